/-! Constructors -/
set_option maxRecDepth 100000
theorem j_init0 {d a : Nat} {z : aSt} : aW (d + 1) 44 [.ref a] z (fun o z' => o = .inl none ∧ z' = z) := by
  refine w_of (k := 44) (m := aM_J0_init) rfl rfl ?_
  refine w_nx (pc' := 1) rfl ?_
  refine w_nx (pc' := 4) rfl ?_
  exact w_fin rfl ⟨rfl, rfl⟩
theorem j_init1 {d a : Nat} {z : aSt} (hT : (gT z a).1 = 2) (ha : 100 ≤ a) : aW (d + 2) 45 [.ref a] z (fun o z' => o = .inl none ∧ z' = sI z a 0 (nI 0)) := by
  refine w_of (k := 45) (m := aM_J1_init) rfl rfl ?_
  refine w_nx (pc' := 1) rfl ?_
  obtain ⟨o, z1, e1, q1, q2⟩ := j_init0 (d := d) (a := a) (z := z)
  subst q1
  rw [q2] at e1
  refine w_cal (pc' := 4) rfl (rfl) (e1) ?_
  refine w_nx (pc' := 5) rfl ?_
  refine w_nx (pc' := 6) (S' := .int (nI 0) :: _) rfl ?_
  refine w_put rfl rfl (hT) (by omega) rfl rfl rfl ?_
  exact w_fin rfl ⟨rfl, rfl⟩
theorem j_init {d a T : Nat} {z : aSt} (hT : gT z a = (2, 0)) (ha : 100 ≤ a) (hl : lv z a) (h13 : gT z 13 = (49, 0)) (h0 : ∀ k, gI z a k = 0) : aW (d + 3) 46 [.ref a] z (fun o z' => o = .inl none ∧ isAL z' T a 13 0 [] ∧ fr (fun b => b = a) z z' ∧ gZ z' = gZ z ∧ gS z' = gS z) := by
  have hT1 : (gT z a).1 = 2 := by rw [hT]
  refine w_of (k := 46) (m := aM_J2_init) rfl rfl ?_
  refine w_nx (pc' := 1) rfl ?_
  obtain ⟨o, z1, e1, q1, q2⟩ := j_init1 (d := d) hT1 ha
  subst q1
  rw [q2] at e1
  refine w_cal (pc' := 4) rfl (rfl) (e1) ?_
  have hTa : (gT (sI z a 0 (nI 0)) a).1 = 2 := hT1
  refine w_nx (pc' := 5) rfl ?_
  refine w_nx (pc' := 8) rfl ?_
  refine w_put rfl rfl hTa ha rfl rfl rfl ?_
  refine w_fin rfl ⟨rfl, ⟨hT, ha, hl, gR_same .., (show gI (sI z a 0 (nI 0)) a 2 = nI 0 from (gI_nk (by decide)).trans (h0 2)), h13, (show lv z 13 by unfold lv; omega), .inl ⟨rfl, rfl⟩, Nat.le_refl _, by decide, fun i hi => absurd hi (by show ¬ i < 0; omega), (fun p hp => by cases hp)⟩, fr_trans (fr_sI fun _ => rfl) (fr_sR fun _ => rfl), rfl, rfl⟩
/-- the Reader, as made -/
def rdI (z : aSt) : Prop := gT z 101 = (1, 0) ∧ gR z 101 0 = some 102 ∧ gR z 101 3 = some 103 ∧ (∀ k, gI z 101 k = 0) ∧ gT z 102 = (41, 40) ∧ isAL z 10 103 13 0 []
theorem x_rdinit {d : Nat} {z : aSt} (hT : gT z 101 = (1, 0)) (hz : gZ z = 2) (h13 : gT z 13 = (49, 0)) (h0 : ∀ k, gI z 101 k = 0) : aW (d + 4) 31 [.ref 101] z (fun o z' => o = .inl none ∧ rdI z' ∧ fr (fun b => b = 101) z z' ∧ gZ z' = 4 ∧ gS z' = gS z + 43) := by
  have e1' : 100 + gZ z = 102 := by omega
  have hTa : (gT (aNew z 41 40 40) 101).1 = 1 := by rw [gT_new, if_neg (by omega), hT]
  refine w_of (k := 31) (m := aM_X2_init) rfl rfl ?_
  refine w_nx (pc' := 1) rfl ?_
  refine w_nx (pc' := 4) rfl ?_
  refine w_nx (pc' := 5) rfl ?_
  refine w_nx (pc' := 7) (S' := .int (nI 40) :: _) rfl ?_
  refine w_newa (t := 41) (pc' := 9) rfl rfl (rfl) (by decide) ?_
  refine w_put rfl rfl hTa (by decide) rfl rfl rfl ?_
  rw [e1']
  have za : gZ (sR (aNew z 41 40 40) 101 0 (some 102)) = 3 := by show gZ z + 1 = 3; omega
  have sa : gS (sR (aNew z 41 40 40) 101 0 (some 102)) = gS z + 40 := rfl
  have fa : fr (fun b => b = 101) z (sR (aNew z 41 40 40) 101 0 (some 102)) := fr_trans fr_new (fr_sR fun _ => rfl)
  have t1 : gT (sR (aNew z 41 40 40) 101 0 (some 102)) 101 = (1, 0) := by show gT (aNew z 41 40 40) 101 = _; rw [gT_new, if_neg (by omega), hT]
  have t2 : gT (sR (aNew z 41 40 40) 101 0 (some 102)) 102 = (41, 40) := by show gT (aNew z 41 40 40) 102 = _; rw [gT_new, if_pos (by omega)]
  have r1 : gR (sR (aNew z 41 40 40) 101 0 (some 102)) 101 0 = some 102 := gR_same ..
  have i1 : ∀ k, gI (sR (aNew z 41 40 40) 101 0 (some 102)) 101 k = 0 := fun k => by show gI (aNew z 41 40 40) 101 k = 0; rw [gI_new, if_neg (by omega)]; exact h0 k
  generalize sR (aNew z 41 40 40) 101 0 (some 102) = z1 at za sa fa t1 t2 r1 i1 ⊢
  have e2' : 100 + gZ z1 = 103 := by omega
  have l13 : lv z 13 := by unfold lv; omega
  refine w_nx (pc' := 13) rfl ?_
  refine w_nx (pc' := 16) rfl ?_
  refine w_nx (pc' := 17) rfl ?_
  have h13' : gT (aNew z1 2 0 3) 13 = (49, 0) := by rw [gT_new, if_neg (by omega), fa.2.1 13 l13]; exact h13
  have fb : fr (fun b => b = 101) z1 (aNew z1 2 0 3) := fr_new
  have zb : gZ (aNew z1 2 0 3) = 4 := by show gZ z1 + 1 = 4; omega
  have sb : gS (aNew z1 2 0 3) = gS z1 + 3 := rfl
  have tb : gT (aNew z1 2 0 3) 103 = (2, 0) := by rw [gT_new, if_pos (by omega)]
  have ib : ∀ k, gI (aNew z1 2 0 3) 103 k = 0 := fun k => by rw [gI_new, if_pos (by omega)]
  rw [e2']
  generalize aNew z1 2 0 3 = z2 at h13' fb zb sb tb ib ⊢
  obtain ⟨o, z3, e3, q1, q2, q3, q4, q5⟩ := j_init (d := d) (T := 10) tb (by decide) (show lv z2 103 by unfold lv; omega) h13' ib
  subst q1
  refine w_cal (pc' := 20) rfl (rfl) (e3) ?_
  have l1 : ∀ b, b < 103 → lv z1 b := fun b hb => by unfold lv; omega
  have l2 : ∀ b, b < 103 → lv z2 b := fun b hb => by unfold lv; omega
  have kk : ∀ b k, b < 103 → b ≠ 101 ∨ True → gT z3 b = gT z1 b := fun b k hb _ => (q3.2.1 b (l2 b hb)).trans (fb.2.1 b (l1 b hb))
  have fN : fr (fun _ => False) z1 z3 := by
    refine fr_old (F := fun _ => False) ⟨?_, ?_, ?_⟩ q3 (fun b hb g => ?_)
    · omega
    · intro b hb; exact fb.2.1 b hb
    · sorry
    · unfold lv at hb; omega
  sorry
