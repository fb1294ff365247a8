/-! The pool of Parts of the Reader (101 the Reader, 103 its list of Parts) -/
set_option maxRecDepth 100000
/-- the pool: n Parts of ps are used; e its array, of c places -/
def pq (z : aSt) (n : Nat) (ps : List Nat) (e c : Nat) : Prop := isAL z 10 103 e c ps ∧ gT z 101 = (1, 0) ∧ lv z 101 ∧ gR z 101 3 = some 103 ∧ gI z 101 4 = nI n ∧ n ≤ ps.length ∧ ps.length ≤ 1000 ∧ ps.Nodup ∧ ∀ p ∈ ps, okQ z p
/-- Parts by their index in the pool -/
def ix (ps : List Nat) (lo hi b : Nat) : Prop := ∃ i, lo ≤ i ∧ i < hi ∧ i < ps.length ∧ ps.getD i 0 = b
/-- what reading may write -/
def rdF (n : Nat) (ps : List Nat) (e b : Nat) : Prop := b = 101 ∨ b = 103 ∨ b = e ∨ ix ps n ps.length b
def rR (n : Nat) (z : aSt) (ps : List Nat) (e c : Nat) (z' : aSt) (n' : Nat) (ps' : List Nat) (e' c' : Nat) : Prop :=
  n ≤ n' ∧ fr (rdF n ps e) z z' ∧ (∀ k, gR z' 101 k = gR z 101 k) ∧ (∀ k, k ≠ 2 → k ≠ 4 → gI z' 101 k = gI z 101 k) ∧ (∃ t, ps' = ps ++ t ∧ ∀ p ∈ t, 100 + gZ z ≤ p) ∧ (e' = e ∨ 100 + gZ z ≤ e') ∧ ps'.length ≤ max ps.length 41 ∧ gZ z' + 2 * ps.length ≤ gZ z + 2 * ps'.length ∧ gS z' + 4 * c + 8 * ps.length ≤ gS z + 4 * c' + 8 * ps'.length
theorem rR_refl {n m : Nat} {z : aSt} {ps : List Nat} {e c : Nat} (h : n ≤ m) : rR n z ps e c z m ps e c := ⟨h, fr_refl z, fun _ => rfl, fun _ _ _ => rfl, ⟨[], (List.append_nil ps).symm, fun r hr => (by cases hr)⟩, .inl rfl, Nat.le_max_left .., Nat.le_refl _, Nat.le_refl _⟩
theorem rR_trans {n n1 n2 : Nat} {z z1 z2 : aSt} {ps ps1 ps2 : List Nat} {e c e1 c1 e2 c2 : Nat} (h : rR n z ps e c z1 n1 ps1 e1 c1) (g : rR n1 z1 ps1 e1 c1 z2 n2 ps2 e2 c2) : rR n z ps e c z2 n2 ps2 e2 c2 := by
  obtain ⟨a0, a1, a2, a2', ⟨t, a3, a4⟩, a5, a6, a7, a8⟩ := h
  obtain ⟨b0, b1, b2, b2', ⟨t', b3, b4⟩, b5, b6, b7, b8⟩ := g
  have hz := a1.1
  refine ⟨Nat.le_trans a0 b0, fr_old a1 b1 ?_, fun k => (b2 k).trans (a2 k), fun k hk hk' => (b2' k hk hk').trans (a2' k hk hk'), ⟨t ++ t', by rw [b3, a3, List.append_assoc], fun r hr => ?_⟩, ?_, by omega, by omega, by omega⟩
  · intro b hb g
    rcases g with g | g | g | ⟨i, g1, g2, g2', g3⟩
    · exact .inl g
    · exact .inr (.inl g)
    · rcases a5 with q | q
      · exact .inr (.inr (.inl (g.trans q)))
      · unfold lv at hb; omega
    · by_cases c : i < ps.length
      · refine .inr (.inr (.inr ⟨i, Nat.le_trans a0 g1, c, c, ?_⟩))
        rw [a3, gd_left c] at g3
        exact g3
      · rw [a3] at g2 g3
        have := a4 _ (gd_right (by omega) g2)
        unfold lv at hb
        omega
  · rcases List.mem_append.mp hr with g | g
    · exact a4 r g
    · have := b4 r g; omega
  · rcases b5 with g | g
    · rw [g]; exact a5
    · exact .inr (by omega)
theorem x_pinit {d p : Nat} {z : aSt} : aW (d + 1) 146 [.ref p] z (fun o z' => o = .inl none ∧ z' = z) := by
  refine w_of (k := 146) (m := aM_X10_init) rfl rfl ?_
  refine w_nx (pc' := 1) rfl ?_
  refine w_nx (pc' := 4) rfl ?_
  exact w_fin rfl (⟨rfl, rfl⟩)
theorem x_fresh {d n e c : Nat} {ps : List Nat} {z : aSt} (h : pq z n ps e c) (hn : n ≤ 40) (hZ : 368 ≤ gZ z) : aW (d + 7) 36 [.ref 101] z (fun o z' => ∃ (ps' : List Nat) (e' c' : Nat), pq z' (n + 1) ps' e' c' ∧ o = .inl (some (.ref (ps'.getD n 0))) ∧ rR n z ps e c z' (n + 1) ps' e' c' ∧ gI z' 101 2 = gI z 101 2) := by
  obtain ⟨h1, h2, h3, h4, h5, h6, h7, h8, h9⟩ := h
  have hT : (gT z 101).1 = 1 := by rw [h2]
  have hTL : (gT z 103).1 = 2 := by rw [h1.1]
  have he101 : e ≠ 101 := fun g => by rw [← g, h1.2.2.2.2.2.1] at h2; cases h2
  refine w_of (k := 36) (m := aM_X2_fresh) rfl rfl ?_
  refine w_nx (pc' := 1) rfl ?_
  refine w_getI rfl rfl (hT) rfl rfl ?_
  refine w_top (h5) ?_
  refine w_nx (pc' := 5) rfl ?_
  refine w_getR rfl rfl (hT) (congrArg va_rf (h4)) rfl ?_
  obtain ⟨o, z1, e1, q1, q2⟩ := (j_size (d := d + 5) h1)
  subst q1
  rw [q2] at e1
  refine w_cal (pc' := 11) rfl (a_cv0 rfl rfl rfl (hTL) rfl rfl) (e1) ?_
  refine w_ncne rfl rfl rfl rfl rfl (by omega) (by omega) (fun hb => ?_) (fun hb => ?_)
  · refine w_nx (pc' := 30) rfl ?_
    refine w_getR rfl rfl (hT) (congrArg va_rf (h4)) rfl ?_
    refine w_nx (pc' := 34) rfl ?_
    refine w_nx (pc' := 35) rfl ?_
    refine w_getI rfl rfl (hT) rfl rfl ?_
    refine w_top (h5) ?_
    refine w_nx (pc' := 39) rfl ?_
    refine w_nx (pc' := 40) (S' := .int (nI 1) :: _) rfl ?_
    refine w_nx (pc' := 41) rfl ?_
    refine w_top (nI_add _ _) ?_
    refine w_put rfl rfl (hT) (by omega) rfl rfl rfl ?_
    have f0 : fr (rdF n ps e) z (sI z 101 4 (nI (n + 1))) := fr_sI fun _ => .inl rfl
    have hA : isAL (sI z 101 4 (nI (n + 1))) 10 103 e c ps := isAL_fr (F := fun b => b = 101) h1 (fr_sI fun _ => rfl) (by decide) (fun g => he101 g)
    have hi : n < ps.length := by omega
    obtain ⟨o, z1, e1, q1, q2⟩ := j_get (d := d + 3) hA hi (by omega)
    subst q1
    rw [q2] at e1
    refine w_cal (pc' := 47) rfl (a_cv0 rfl rfl rfl (hTL) rfl rfl) (e1) ?_
    refine w_cast rfl rfl (hA.2.2.2.2.2.2.2.2.2.2.2 _ (get_mem hi)).1 rfl ?_
    refine w_fin rfl ⟨ps, e, c, ⟨hA, h2, h3, h4, gI_same .., by omega, h7, h8, fun r hr => h9 r hr⟩, rfl, ⟨by omega, f0, fun k => rfl, fun k _ hk => gI_nk hk, ⟨[], (List.append_nil ps).symm, fun r hr => (by cases hr)⟩, .inl rfl, Nat.le_max_left .., Nat.le_refl _, Nat.le_refl _⟩, gI_nk (by decide)⟩
  · refine w_nx (pc' := 15) rfl ?_
    refine w_getR rfl rfl (hT) (congrArg va_rf (h4)) rfl ?_
    refine w_nx (pc' := 21) rfl ?_
    refine w_nx (pc' := 22) rfl ?_
    have hT1 : gT (aNew z 10 0 8) (100 + gZ z) = (10, 0) := if_pos rfl
    obtain ⟨o, z1, e1, q1, q2⟩ := (x_pinit (d := d + 5) (z := aNew z 10 0 8) (p := 100 + gZ z))
    subst q1
    rw [q2] at e1
    refine w_cal (pc' := 25) rfl (rfl) (e1) ?_
    have f1 : fr (fun _ => False) z (aNew z 10 0 8) := fr_new
    generalize hz1 : aNew z 10 0 8 = z1 at hT1 f1 ⊢
    have g4 : gZ z1 = gZ z + 1 := by rw [← hz1]; rfl
    have g5 : gS z1 = gS z + 8 := by rw [← hz1]; rfl
    have hA1 : isAL z1 10 103 e c ps := isAL_fr h1 f1 (fun g => g) (fun g => g)
    have hln : lv z1 (100 + gZ z) := by unfold lv; omega
    have hTL1 : (gT z1 103).1 = 2 := by rw [hA1.1]
    obtain ⟨o, z2, e2, e', c', r1, r2, r3, r4, r5, r6⟩ := (j_add (d := d) hA1 (p := 100 + gZ z) rfl (by omega) (by rw [hT1]) hln)
    subst r1
    refine w_cal (pc' := 28) rfl (a_cv0 rfl rfl rfl (hTL1) rfl rfl) (e2) ?_
    have h2' : gT z2 101 = (1, 0) := by rw [r3.2.1 101 (lv_fr f1 h3), f1.2.1 101 h3]; exact h2
    have hT' : (gT z2 101).1 = 1 := by rw [h2']
    have hne : ¬ (101 = 103 ∨ 101 = e) := fun g => g.elim (by decide) fun g => he101 g.symm
    have hk : ∀ k, gR z2 101 k = gR z 101 k := fun k => ((r3.2.2 101 (lv_fr f1 h3) hne k).2.2).trans (f1.2.2 101 h3 (fun g => g) k).2.2
    have hki : ∀ k, gI z2 101 k = gI z 101 k := fun k => ((r3.2.2 101 (lv_fr f1 h3) hne k).1).trans (f1.2.2 101 h3 (fun g => g) k).1
    have h4' : gR z2 101 3 = some 103 := (hk 3).trans h4
    have h5' : gI z2 101 4 = nI n := (hki 4).trans h5
    have hl2 : lv z2 101 := lv_fr r3 (lv_fr f1 h3)
    have hTL2 : (gT z2 103).1 = 2 := by rw [r2.1]
    have he101' : e' ≠ 101 := fun g => by rw [← g, r2.2.2.2.2.2.1] at h2'; cases h2'
    refine w_nx (pc' := 29) rfl ?_
    refine w_nx (pc' := 30) rfl ?_
    refine w_getR rfl rfl (hT') (congrArg va_rf (h4')) rfl ?_
    refine w_nx (pc' := 34) rfl ?_
    refine w_nx (pc' := 35) rfl ?_
    refine w_getI rfl rfl (hT') rfl rfl ?_
    refine w_top (h5') ?_
    refine w_nx (pc' := 39) rfl ?_
    refine w_nx (pc' := 40) (S' := .int (nI 1) :: _) rfl ?_
    refine w_nx (pc' := 41) rfl ?_
    refine w_top (nI_add _ _) ?_
    refine w_put rfl rfl (hT') (by omega) rfl rfl rfl ?_
    have hA : isAL (sI z2 101 4 (nI (n + 1))) 10 103 e' c' (ps ++ [100 + gZ z]) := isAL_fr (F := fun b => b = 101) r2 (fr_sI fun _ => rfl) (by decide) (fun g => he101' g)
    have hlen : (ps ++ [100 + gZ z]).length = ps.length + 1 := by rw [List.length_append]; rfl
    have hi : n < (ps ++ [100 + gZ z]).length := by omega
    obtain ⟨o, z3, e3, s1, s2⟩ := j_get (d := d + 3) hA hi (by omega)
    subst s1
    rw [s2] at e3
    refine w_cal (pc' := 47) rfl (a_cv0 rfl rfl rfl (hTL2) rfl rfl) (e3) ?_
    refine w_cast rfl rfl (hA.2.2.2.2.2.2.2.2.2.2.2 _ (get_mem hi)).1 rfl ?_
    refine w_fin rfl ⟨ps ++ [100 + gZ z], e', c', ⟨hA, h2', hl2, h4', gI_same .., by omega, by omega, ?_, fun r hr => ?_⟩, rfl, ⟨by omega, ?_, fun k => hk k, fun k _ hk' => (gI_nk hk').trans (hki k), ⟨_, rfl, (fun r hr => Nat.le_of_eq (List.mem_singleton.mp hr).symm)⟩, ?_, by omega, ?_, ?_⟩, (gI_nk (by decide)).trans (hki 2)⟩
    · rw [List.nodup_append]
      refine ⟨h8, List.nodup_cons.mpr ⟨fun h => (by cases h), List.nodup_nil⟩, fun a ha b hb g => ?_⟩
      rw [List.mem_singleton.mp hb] at g
      have := (h9 a ha).2.1
      unfold lv at this
      omega
    · rcases List.mem_append.mp hr with g | g
      · exact okQ_fr (okQ_fr (okQ_fr (h9 r g) f1) r3) (fr_sI (F := fun b => b = 101) fun _ => rfl)
      · rw [List.mem_singleton.mp g]
        refine ⟨(r3.2.1 _ hln).trans hT1, (show lv z2 _ from lv_fr r3 hln), by omega⟩
    · refine fr_old (fr_old (F := rdF n ps e) (fr_mono f1 fun _ _ g => g.elim) r3 fun b _ g => g.elim (fun g => .inr (.inl g)) fun g => .inr (.inr (.inl g))) (fr_sI (F := fun b => b = 101) fun _ => rfl) (fun b _ g => .inl g)
    · rcases r4 with g | g
      · exact .inl g
      · exact .inr (by omega)
    · show gZ z2 + 2 * ps.length ≤ _
      omega
    · show gS z2 + 4 * c + 8 * ps.length ≤ _
      omega
