/-! Reader.property, Reader.whole -/
set_option maxRecDepth 100000
theorem rng_P (tx : List Nat) : ∀ f a, a ≤ tx.length → rng tx a (pPr tx f a)
  | 0, a, ha => ⟨Nat.le_refl _, ha⟩
  | f + 1, a, ha => by
    unfold pPr
    split
    · next h => exact rng_b (rng_P tx f (a + 1) (tx_le h (by decide))) (by omega) fun t b h1 h2 => ⟨by show a + 1 ≤ b; omega, h2⟩
    split
    · next h => exact rng_b (rng_P tx f (a + 1) (tx_le h (by decide))) (by omega) fun t b h1 h2 => ⟨by show a + 1 ≤ b; omega, h2⟩
    split
    · next h =>
      refine rng_b (rng_S tx f (a + 1) (tx_le h (by decide))) (by omega) fun t b h1 h2 => ?_
      split
      · next g =>
        have hb := tx_le g (by decide)
        split
        · next q =>
          have hb2 : b + 1 + 1 ≤ tx.length := by rcases q with q | q <;> exact tx_le q (by decide)
          exact rng_b (rng_P tx f (b + 2) hb2) (by omega) fun u c h3 h4 => ⟨by show a + 1 ≤ c; omega, h4⟩
        · exact ⟨by omega, hb⟩
      · exact ⟨by omega, h2⟩
    split
    · next h =>
      refine rng_b (rng_P tx f (a + 1) (tx_le h (by decide))) (by omega) fun t b h1 h2 => ?_
      split
      · next g =>
        have hb : b + 1 ≤ tx.length := by rcases g with g | g | g <;> exact tx_le g (by decide)
        refine rng_b (rng_P tx f (b + 1) hb) (by omega) fun u c h3 h4 => ?_
        split
        · next q => exact ⟨by show a + 1 ≤ c + 1; omega, tx_le q (by decide)⟩
        · exact ⟨by omega, h4⟩
      · exact ⟨by omega, h2⟩
    split
    · next v hv => exact ⟨Nat.le_refl _, tx_le rfl (lit_ne hv)⟩
    · split
      · next h => exact rng_b (rng_B tx f (a + 1) (tx_le h (by decide))) (by omega) fun t b h1 h2 => ⟨by show a + 1 ≤ b; omega, h2⟩
      · exact ⟨Nat.le_refl _, ha⟩
/-- a property whose Parts all differ -/
def rpN (z : aSt) (P : Nat → Prop) (T : Tr) (p : Nat) : Prop := rpP z P T p ∧ (pts z T p).Nodup
theorem rpP_mono {z : aSt} {P Q : Nat → Prop} {T : Tr} {p : Nat} (h : rpP z P T p) (hQ : ∀ b, P b → Q b) : rpP z Q T p := (rpP_sh (fun _ _ ho => ⟨ho, fun _ => rfl, fun _ => rfl⟩) hQ T p h).1
theorem rpS_mono {z : aSt} {P Q : Nat → Prop} {T : Tr} {p : Nat} (h : rpS z P T p) (hQ : ∀ b, P b → Q b) : rpS z Q T p := rpS_sh (fun _ _ ho => ⟨ho, fun _ => rfl, fun _ => rfl⟩) hQ T p h
theorem rpN_on {n n1 n2 m : Nat} {z1 z2 : aSt} {ps1 ps2 tx : List Nat} {e1 c1 e2 c2 a : Nat} {U : Tr} {u : Nat} (rr : rR n1 z1 ps1 e1 c1 z2 n2 ps2 e2 c2) (st : stR z1 tx a m ps1 e1 c1) (h : rpN z1 (ix ps1 n n1) U u) : rpN z2 (ix ps2 n n1) U u := by
  obtain ⟨h1, h2⟩ := rpP_sh (rR_sh rr st.2.2.1) (fun _ hb => rR_ix rr hb) U u h.1
  exact ⟨h1, by rw [h2]; exact h.2⟩
theorem rpN_sh {z z' : aSt} {P : Nat → Prop} {T : Tr} {p : Nat} (h : rpN z P T p) (f : sh2 P z z') : rpN z' P T p := by
  obtain ⟨h1, h2⟩ := rpP_sh f (fun _ hb => hb) T p h.1
  exact ⟨h1, by rw [h2]; exact h.2⟩
theorem mk1 {z : aSt} {P Q : Nat → Prop} {k p s : Nat} {T : Tr} (hk : k = 1 ∨ k = 2) (ho : okQ z p ∧ Q p) (h0 : gR z p 0 = some k) (h1 : gR z p 1 = some s) (h : rpN z P T s) (hQ : ∀ b, P b → Q b) (hp : ¬ P p) : rpN z Q (.inner k 0 0 T .leaf) p := by
  refine ⟨⟨ho, h0, .inr (.inl ⟨hk, by rw [vR_of h1]; exact h1, by rw [vR_of h1]; exact rpP_mono h.1 hQ⟩)⟩, ?_⟩
  unfold pts
  rw [if_neg (by omega), if_pos hk, vR_of h1]
  exact List.nodup_cons.mpr ⟨fun g => hp (pts_P T s h.1 p g), h.2⟩
theorem mk2 {z : aSt} {P P' Q : Nat → Prop} {k p s t : Nat} {S T : Tr} (hk : k = 3 ∨ k = 4) (ho : okQ z p ∧ Q p) (h0 : gR z p 0 = some k) (h1 : gR z p 1 = some s) (h2 : gR z p 2 = some t) (hS : rpS z P' S s) (h : rpN z P T t) (hQ' : ∀ b, P' b → Q b) (hQ : ∀ b, P b → Q b) (hp : ¬ P p) : rpN z Q (.inner k 0 0 S T) p := by
  refine ⟨⟨ho, h0, .inr (.inr (.inl ⟨hk, by rw [vR_of h1]; exact h1, by rw [vR_of h1]; exact rpS_mono hS hQ', by rw [vR_of h2]; exact h2, by rw [vR_of h2]; exact rpP_mono h.1 hQ⟩))⟩, ?_⟩
  unfold pts
  rw [if_neg (by omega), if_neg (by omega), if_pos hk, vR_of h2]
  exact List.nodup_cons.mpr ⟨fun g => hp (pts_P T t h.1 p g), h.2⟩
theorem mk3 {z : aSt} {P P' Q : Nat → Prop} {k p s t : Nat} {S T : Tr} (hk : k = 5 ∨ k = 6 ∨ k = 7) (ho : okQ z p ∧ Q p) (h0 : gR z p 0 = some k) (h1 : gR z p 1 = some s) (h2 : gR z p 2 = some t) (hS : rpN z P' S s) (h : rpN z P T t) (hQ' : ∀ b, P' b → Q b) (hQ : ∀ b, P b → Q b) (hp : ¬ P p) (hp' : ¬ P' p) (hd : ∀ b, P' b → ¬ P b) : rpN z Q (.inner k 0 0 S T) p := by
  refine ⟨⟨ho, h0, .inr (.inr (.inr ⟨hk, by rw [vR_of h1]; exact h1, by rw [vR_of h1]; exact rpP_mono hS.1 hQ', by rw [vR_of h2]; exact h2, by rw [vR_of h2]; exact rpP_mono h.1 hQ⟩))⟩, ?_⟩
  unfold pts
  rw [if_neg (by omega), if_neg (by omega), if_neg (by omega), vR_of h1, vR_of h2]
  refine List.nodup_cons.mpr ⟨fun g => ?_, List.nodup_append.mpr ⟨hS.2, h.2, fun a ha b hb g => hd a (pts_P S s hS.1 a ha) (by rw [g]; exact pts_P T t h.1 b hb)⟩⟩
  rcases List.mem_append.mp g with g | g
  · exact hp' (pts_P S s hS.1 p g)
  · exact hp (pts_P T t h.1 p g)
theorem x_bools {tx : List Nat} {d dep a : Nat} {z : aSt} (hd : dep ≤ 12) (h : rdr z tx a) (hne : tx.getD a 0 ≠ 33) : aW (d + 5) 41 [.ref 101, .int (nI dep), .int (nI 1)] z (fun o z' => (∃ v, lit (tx.getD a 0) = some v ∧ o = .inl (some (.int (nI (bm (.inner 20 v 0 .leaf .leaf))))) ∧ z' = sI z 101 2 (nI (a + 1))) ∨ (lit (tx.getD a 0) = none ∧ o = .inr (100 + gZ z) ∧ z' = aNew z 13 0 6)) := by
  have hT : (gT z 101).1 = 1 := by rw [h.1]
  have hc := tx_lt h.2.2.2.2.2.2.1 a
  refine w_of (k := 41) (m := aM_X2_bool) rfl rfl ?_
  refine w_nx (pc' := 1) rfl ?_
  refine w_nx (pc' := 3) (S' := .int (nI 12) :: _) rfl ?_
  refine w_ncgt rfl rfl rfl (rfl) (rfl) (by omega) (by omega) (fun hb => ?_) (fun hb => ?_)
  · omega
  · refine w_nx (pc' := 7) (S' := .int (nI 1) :: _) rfl ?_
    refine w_nx (pc' := 11) rfl ?_
    obtain ⟨o, z1, e1, q1, q2⟩ := x_need1 (d := d + 3) (z := z)
    subst q1
    rw [q2] at e1
    refine w_cal (pc' := 14) rfl (rfl) (e1) ?_
    refine w_nx (pc' := 15) rfl ?_
    obtain ⟨o, z1, e1, q1, q2⟩ := x_here (d := d + 3) h
    subst q1
    rw [q2] at e1
    refine w_cal (pc' := 18) rfl (a_cv0 rfl rfl rfl (hT) rfl rfl) (e1) ?_
    obtain ⟨o, z1, e1, q0, ⟨v, q1, q2⟩ | ⟨q1, q2⟩⟩ := x_truthOf (d := d + 3) (z := z) hc
    · subst q2
      rw [q0] at e1
      refine w_cal (pc' := 21) rfl (rfl) (e1) ?_
      refine w_nx (pc' := 22) rfl ?_
      refine w_nx (pc' := 23) rfl ?_
      have hm := bm_lt (.inner 20 v 0 .leaf .leaf)
      refine w_iflt rfl rfl rfl (fun g => absurd g (nI_pos (by omega))) (fun _ => ?_)
      refine w_nx (pc' := 27) rfl ?_
      refine w_nx (pc' := 28) rfl ?_
      refine w_getI rfl rfl (hT) rfl rfl ?_
      refine w_top (h.2.2.2.2.2.2.2.1) ?_
      refine w_nx (pc' := 32) (S' := .int (nI 1) :: _) rfl ?_
      refine w_nx (pc' := 33) rfl ?_
      refine w_top (nI_add _ _) ?_
      refine w_put rfl rfl (hT) (by omega) rfl rfl rfl ?_
      refine w_nx (pc' := 37) rfl ?_
      exact w_fin rfl (.inl ⟨v, q1, rfl, rfl⟩)
    · subst q2
      rw [q0] at e1
      refine w_cal (pc' := 21) rfl (rfl) (e1) ?_
      refine w_nx (pc' := 22) rfl ?_
      refine w_nx (pc' := 23) rfl ?_
      refine w_iflt rfl rfl rfl (fun _ => ?_) (fun g => absurd (show (-1 : Int32) < 0 by decide) g)
      refine w_nx (pc' := 39) rfl ?_
      refine w_ifeq rfl rfl rfl (fun g => absurd g (by decide)) (fun _ => ?_)
      refine w_nx (pc' := 43) rfl ?_
      obtain ⟨o, z1, e1, q3, q4⟩ := x_here (d := d + 3) h
      subst q3
      rw [q4] at e1
      refine w_cal (pc' := 46) rfl (a_cv0 rfl rfl rfl (hT) rfl rfl) (e1) ?_
      refine w_nx (pc' := 48) (S' := .int (nI 33) :: _) rfl ?_
      refine w_ncne rfl rfl rfl rfl rfl (by omega) (by omega) (fun _ => ?_) (fun g => absurd g hne)
      refine w_nx (pc' := 56) (S' := .int (nI 0) :: _) rfl ?_
      obtain ⟨o, z1, e1, q3, q4⟩ := x_need0 (d := d + 3) (z := z)
      subst q3
      rw [q4] at e1
      refine w_thr (rfl) (e1) rfl ?_
      exact .inr ⟨q1, rfl, rfl⟩
