/-! Duties.fresh, follow -/
set_option maxRecDepth 100000
/-- an obligation's row in the Duties' arrays -/
def ent (z : aSt) (i : Nat) : Int32 × Int32 × Int32 × Option Nat × Option Nat := (gI z 106 i, gI z 107 i, gI z 108 i, gR z 109 i, gR z 105 i)
/-- the Duties' arrays, as made -/
def dutT (z : aSt) : Prop := gT z 104 = (3, 0) ∧ 368 ≤ gZ z ∧ gR z 104 1 = some 105 ∧ gR z 104 2 = some 106 ∧ gR z 104 3 = some 107 ∧ gR z 104 4 = some 108 ∧ gR z 104 5 = some 109 ∧ gT z 105 = (45, 9) ∧ gT z 106 = (40, 9) ∧ gT z 107 = (40, 9) ∧ gT z 108 = (42, 9) ∧ gT z 109 = (45, 9)
/-- only the Duties' arrays and the count of obligations change -/
def frD (z z' : aSt) : Prop := fr (fun b => 104 ≤ b ∧ b ≤ 109) z z' ∧ (∀ k, gR z' 104 k = gR z 104 k) ∧ (∀ k, k ≠ 0 → gI z' 104 k = gI z 104 k) ∧ ∀ i, gR z' 109 i = gR z 109 i ∨ ∃ b, 468 ≤ b ∧ gR z' 109 i = some b
theorem frD_refl (z : aSt) : frD z z := ⟨fr_refl z, fun _ => rfl, fun _ _ => rfl, fun _ => .inl rfl⟩
theorem frD_trans {z z1 z2 : aSt} (h : frD z z1) (g : frD z1 z2) : frD z z2 := ⟨fr_trans h.1 g.1, fun k => (g.2.1 k).trans (h.2.1 k), fun k hk => (g.2.2.1 k hk).trans (h.2.2.1 k hk), fun i => (g.2.2.2 i).elim (fun e => (h.2.2.2 i).elim (fun e' => .inl (e.trans e')) fun ⟨b, h1, h2⟩ => .inr ⟨b, h1, e.trans h2⟩) .inr⟩
theorem frD_sI {z : aSt} {a k : Nat} {v : Int32} (h : 105 ≤ a ∧ a ≤ 109 ∨ a = 104 ∧ k = 0) : frD z (sI z a k v) := by
  refine ⟨fr_sI fun _ => by omega, fun _ => rfl, fun j hj => ?_, fun _ => .inl rfl⟩
  rcases h with h | h
  · exact gI_ne (by omega)
  · exact gI_nk (by omega)
theorem frD_sR {z : aSt} {a k : Nat} {v : Option Nat} (h : 105 ≤ a ∧ a ≤ 109) (hv : a ≠ 109 ∨ ∃ b, 468 ≤ b ∧ v = some b) : frD z (sR z a k v) := by
  refine ⟨fr_sR fun _ => by omega, fun j => gR_ne (by omega), fun _ _ => rfl, fun i => ?_⟩
  rw [gR_sR]
  rcases hv with hv | ⟨b, h1, h2⟩
  · rw [if_neg (Ne.symm hv)]; exact .inl rfl
  · split
    · split
      · exact .inr ⟨b, h1, h2⟩
      · exact .inl rfl
    · exact .inl rfl
theorem dutT_fr {z z' : aSt} (h : dutT z) (f : frD z z') : dutT z' := by
  obtain ⟨h1, h2, h3, h4, h5, h6, h7, h8, h9, h10, h11, h12⟩ := h
  have t : ∀ b, b < 468 → gT z' b = gT z b := fun b hb => f.1.2.1 b (by unfold lv; omega)
  exact ⟨(t _ (by decide)).trans h1, Nat.le_trans h2 f.1.1, (f.2.1 1).trans h3, (f.2.1 2).trans h4, (f.2.1 3).trans h5, (f.2.1 4).trans h6, (f.2.1 5).trans h7, (t _ (by decide)).trans h8, (t _ (by decide)).trans h9, (t _ (by decide)).trans h10, (t _ (by decide)).trans h11, (t _ (by decide)).trans h12⟩
/-- a tenth obligation -/
theorem x_fresh9 {d : Nat} {z : aSt} {v : Value} (h : dutT z) (hm : gI z 104 0 = nI 9) (hv : v = .null ∨ ∃ p, v = .ref p) : aW (d + 1) 57 [.ref 104, v] z (fun o z' => o = .inr (100 + gZ z) ∧ z' = aNew z 14 0 6) := by
  have hT : (gT z 104).1 = 3 := by rw [h.1]
  have he : ∃ L, aEnt aM_X3_fresh [.ref 104, v] = some L ∧ L = [some (.ref 104), some v] := by
    rcases hv with rfl | ⟨p, rfl⟩ <;> exact ⟨_, rfl, rfl⟩
  obtain ⟨L, he1, he2⟩ := he
  refine w_of (k := 57) (m := aM_X3_fresh) rfl he1 ?_
  rw [he2]
  refine w_nx (pc' := 1) rfl ?_
  refine w_getI rfl rfl (hT) rfl rfl ?_
  refine w_top (hm) ?_
  refine w_nx (pc' := 6) (S' := .int (nI 9) :: _) rfl ?_
  refine w_ncne rfl rfl rfl (rfl) (rfl) (by omega) (by omega) (fun hb => ?_) (fun hb => ?_)
  · exact absurd rfl hb
  · exact w_thn rfl ⟨rfl, rfl⟩
/-- one obligation more: a place -/
theorem x_freshN {d m : Nat} {z : aSt} (h : dutT z) (hm : gI z 104 0 = nI m) (h9 : m < 9) : aW (d + 1) 57 [.ref 104, .null] z (fun o z' => o = .inl (some (.int (nI m))) ∧ z' = sI (sR z 105 m none) 104 0 (nI (m + 1))) := by
  obtain ⟨h1, h2, h3, h4, h5, h6, h7, h8, _⟩ := h
  have hT : (gT z 104).1 = 3 := by rw [h1]
  refine w_of (k := 57) (m := aM_X3_fresh) rfl rfl ?_
  refine w_nx (pc' := 1) rfl ?_
  refine w_getI rfl rfl (hT) rfl rfl ?_
  refine w_top (hm) ?_
  refine w_nx (pc' := 6) (S' := .int (nI 9) :: _) rfl ?_
  refine w_ncne rfl rfl rfl (rfl) (rfl) (by omega) (by omega) (fun hb => ?_) (fun hb => ?_)
  · refine w_nx (pc' := 18) rfl ?_
    refine w_getR rfl rfl (hT) (congrArg va_rf (h3)) rfl ?_
    refine w_nx (pc' := 22) rfl ?_
    refine w_getI rfl rfl (hT) rfl rfl ?_
    refine w_top (hm) ?_
    refine w_nx (pc' := 26) rfl ?_
    refine w_aastN rfl (h8) (by omega) rfl (rfl) (by omega) (by decide) rfl ?_
    refine w_nx (pc' := 28) rfl ?_
    refine w_nx (pc' := 29) rfl ?_
    refine w_getI rfl rfl (hT) rfl rfl ?_
    refine w_top (hm) ?_
    refine w_nx (pc' := 33) rfl ?_
    refine w_nx (pc' := 34) (S' := .int (nI 1) :: _) rfl ?_
    refine w_nx (pc' := 35) rfl ?_
    refine w_top (nI_add _ _) ?_
    refine w_put rfl rfl (hT) (by omega) rfl rfl rfl ?_
    exact w_fin rfl (⟨rfl, rfl⟩)
  · omega
/-- one obligation more: a property -/
theorem x_freshP {d m p : Nat} {z : aSt} (h : dutT z) (hm : gI z 104 0 = nI m) (h9 : m < 9) (hp : (gT z p).1 = 10) : aW (d + 1) 57 [.ref 104, .ref p] z (fun o z' => o = .inl (some (.int (nI m))) ∧ z' = sI (sR z 105 m (some p)) 104 0 (nI (m + 1))) := by
  obtain ⟨h1, h2, h3, h4, h5, h6, h7, h8, _⟩ := h
  have hT : (gT z 104).1 = 3 := by rw [h1]
  refine w_of (k := 57) (m := aM_X3_fresh) rfl rfl ?_
  refine w_nx (pc' := 1) rfl ?_
  refine w_getI rfl rfl (hT) rfl rfl ?_
  refine w_top (hm) ?_
  refine w_nx (pc' := 6) (S' := .int (nI 9) :: _) rfl ?_
  refine w_ncne rfl rfl rfl (rfl) (rfl) (by omega) (by omega) (fun hb => ?_) (fun hb => ?_)
  · refine w_nx (pc' := 18) rfl ?_
    refine w_getR rfl rfl (hT) (congrArg va_rf (h3)) rfl ?_
    refine w_nx (pc' := 22) rfl ?_
    refine w_getI rfl rfl (hT) rfl rfl ?_
    refine w_top (hm) ?_
    refine w_nx (pc' := 26) rfl ?_
    refine w_aast rfl (h8) (by omega) ((congrArg (aAst 45) hp).trans rfl) (rfl) (by omega) (by decide) rfl ?_
    refine w_nx (pc' := 28) rfl ?_
    refine w_nx (pc' := 29) rfl ?_
    refine w_getI rfl rfl (hT) rfl rfl ?_
    refine w_top (hm) ?_
    refine w_nx (pc' := 33) rfl ?_
    refine w_nx (pc' := 34) (S' := .int (nI 1) :: _) rfl ?_
    refine w_nx (pc' := 35) rfl ?_
    refine w_top (nI_add _ _) ?_
    refine w_put rfl rfl (hT) (by omega) rfl rfl rfl ?_
    exact w_fin rfl (⟨rfl, rfl⟩)
  · omega
theorem x_follow1 {d m las fir : Nat} {z0 : aSt} {V : Nat → Nat} (h : dutT z0) (hm : gI z0 104 0 = nI m) (h9 : m ≤ 9) (hl : las < 512) : ∀ (q k : Nat) (z : aSt), k + q = m → frD z0 z → gI z 104 0 = nI m → (∀ a, a ≠ 107 → ∀ j, gI z a j = gI z0 a j) → gR z = gR z0 → gT z = gT z0 → gL z = gL z0 → gZ z = gZ z0 → gS z = gS z0 → (∀ i, gI z 107 i = if i < k ∧ las.testBit i = true then gI z0 107 i ||| nI fir else gI z0 107 i) →
    wR (aEx d) aM_X3_follow (fun o z' => o = .inl none ∧ frI (fun b => b = 107) z0 z' ∧ ∀ i, gI z' 107 i = if i < m ∧ las.testBit i = true then gI z0 107 i ||| nI fir else gI z0 107 i) 2 [some (.ref 104), some (.int (nI las)), some (.int (nI fir)), some (.int (nI k))] [] z := by
  intro q
  induction q with
  | zero =>
    intro k z hk f hmz g1 g2 g3 g4 g5 g6 hI
    have hT : (gT z 104).1 = 3 := by rw [g3, h.1]
    refine w_nx (pc' := 3) rfl ?_
    refine w_nx (pc' := 4) rfl ?_
    refine w_getI rfl rfl (hT) rfl rfl ?_
    refine w_top (hmz) ?_
    refine w_ncge rfl rfl rfl (rfl) (rfl) (by omega) (by omega) (fun hb => ?_) (fun hb => ?_)
    · have e : k = m := by omega
      rw [e] at hI
      exact w_fin rfl (⟨rfl, ⟨g3, g4, g2, g5, g6, fun a ha j => g1 a ha j⟩, hI⟩)
    · omega
  | succ q ih =>
    intro k z hk f hmz g1 g2 g3 g4 g5 g6 hI
    have hT : (gT z 104).1 = 3 := by rw [g3, h.1]
    have h5 : gR z 104 3 = some 107 := by rw [g2]; exact h.2.2.2.2.1
    have hT7 : gT z 107 = (40, 9) := by rw [g3]; exact h.2.2.2.2.2.2.2.2.2.1
    refine w_nx (pc' := 3) rfl ?_
    refine w_nx (pc' := 4) rfl ?_
    refine w_getI rfl rfl (hT) rfl rfl ?_
    refine w_top (hmz) ?_
    refine w_ncge rfl rfl rfl (rfl) (rfl) (by omega) (by omega) (fun hb => ?_) (fun hb => ?_)
    · omega
    · refine w_nx (pc' := 11) rfl ?_
      refine w_nx (pc' := 12) rfl ?_
      refine w_nx (pc' := 13) rfl ?_
      refine w_nx (pc' := 14) (S' := .int (nI 1) :: _) rfl ?_
      refine w_nx (pc' := 15) rfl ?_
      refine w_top (nI_bit (by omega) (by omega)) ?_
      refine w_nx (pc' := 16) (S' := .int (nI 1) :: _) rfl ?_
      by_cases hbit : las.testBit k = true
      · rw [if_pos hbit]
        refine w_icne rfl rfl rfl (fun h => absurd rfl h) (fun _ => ?_)
        refine w_nx (pc' := 20) rfl ?_
        refine w_getR rfl rfl (hT) (congrArg va_rf (h5)) rfl ?_
        refine w_nx (pc' := 24) rfl ?_
        refine w_nx (pc' := 25) rfl ?_
        refine w_ald rfl (fun _ _ _ _ _ _ => rfl) (hT7) rfl (rfl) (by omega) (by decide) rfl rfl ?_
        refine w_nx (pc' := 27) rfl ?_
        refine w_nx (pc' := 28) rfl ?_
        refine w_ast (f := fun x => x) rfl (fun _ _ _ _ _ _ => rfl) (hT7) (by omega) (rfl) (by omega) (by decide) rfl ?_
        refine w_iinc rfl rfl (nI_1 _) rfl rfl ?_
        refine w_nx (pc' := 2) rfl ?_
        refine ih (k + 1) _ (by omega) (frD_trans f (frD_sI (.inl (by decide)))) ((gI_ne (by decide)).trans hmz) (fun a ha j => (gI_ne ha).trans (g1 a ha j)) g2 g3 g4 g5 g6 (fun i => ?_)
        rw [gI_sI, if_pos rfl]
        by_cases e : i = k
        · rw [if_pos e, e, if_pos ⟨Nat.lt_succ_self k, hbit⟩, hI k, if_neg (by omega)]
        · rw [if_neg e, hI i]
          by_cases c : i < k ∧ las.testBit i = true
          · rw [if_pos c, if_pos ⟨by omega, c.2⟩]
          · rw [if_neg c, if_neg (fun c' => c ⟨by omega, c'.2⟩)]
      · rw [if_neg hbit]
        refine w_icne rfl rfl rfl (fun _ => ?_) (fun h => absurd (show ¬ nI 0 = nI 1 by decide) h)
        refine w_iinc rfl rfl (nI_1 _) rfl rfl ?_
        refine w_nx (pc' := 2) rfl ?_
        refine ih (k + 1) z (by omega) f hmz g1 g2 g3 g4 g5 g6 (fun i => ?_)
        rw [hI i]
        by_cases e : i = k
        · rw [e, if_neg (by omega), if_neg (fun c => hbit c.2)]
        · by_cases c : i < k ∧ las.testBit i = true
          · rw [if_pos c, if_pos ⟨by omega, c.2⟩]
          · rw [if_neg c, if_neg (fun c' => c ⟨by omega, c'.2⟩)]
theorem x_follow {d m las fir : Nat} {z : aSt} (h : dutT z) (hm : gI z 104 0 = nI m) (h9 : m ≤ 9) (hl : las < 512) : aW (d + 1) 59 [.ref 104, .int (nI las), .int (nI fir)] z (fun o z' => o = .inl none ∧ frI (fun b => b = 107) z z' ∧ ∀ i, gI z' 107 i = if i < m ∧ las.testBit i = true then gI z 107 i ||| nI fir else gI z 107 i) := by
  refine w_of (k := 59) (m := aM_X3_follow) rfl rfl ?_
  refine w_nx (pc' := 1) (S' := .int (nI 0) :: _) rfl ?_
  refine w_nx (pc' := 2) rfl ?_
  exact x_follow1 (V := fun _ => 0) h hm h9 hl m 0 z (by omega) (frD_refl z) hm (fun _ _ _ => rfl) rfl rfl rfl rfl rfl (fun i => by rw [if_neg (by omega)])
