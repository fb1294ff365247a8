/-! Duties.take, whole -/
set_option maxRecDepth 100000
theorem pl_many {n : Nat} {z : aSt} {rs : List Nat} {e c : Nat} {v : Int32} (h : pl z n rs e c) : pl (sI z 104 0 v) n rs e c := by
  obtain ⟨h1, h2, h3, h4, h5, h6, h7, h8, h9⟩ := h
  have he104 : e ≠ 104 := fun g => by rw [← g, h1.2.2.2.2.2.1] at h2; cases h2
  exact ⟨isAL_fr (F := fun b => b = 104) h1 (fr_sI fun _ => rfl) (by decide) he104, h2, h3, h4, (gI_nk (by decide)).trans h5, h6, h7, h8, h9⟩
/-- the memory when walk begins -/
def tk0 (z : aSt) : aSt := sI (sI z 104 0 (nI 0)) 104 8 (nI 0)
theorem tk0_shp (z : aSt) : shp z (tk0 z) := fun b hb => ⟨hb, fun _ => rfl, fun k _ _ => by
  have := hb.2.2
  unfold tk0
  rw [gI_ne (by omega), gI_ne (by omega)]⟩
theorem askT_frW {ps : List Nat} {z z' : aSt} (h : askT z) (hT : dutT z) (f : frW ps z z') (hps : ∀ b, b ∈ ps → okQ z b) : askT z' := by
  obtain ⟨h1, h2, h3, h4⟩ := h
  have lvz : ∀ b, b < 468 → lv z b := fun b hb => by have := hT.2.1; unfold lv; omega
  have np : ∀ b, b < 468 → b ∉ ps := fun b hb q => by have := (hps b q).2.2; omega
  refine ⟨(f.2.1 6).trans h1, (f.1.2.1 110 (lvz _ (by decide))).trans h2, fun i hi => ((f.1.2.2 110 (lvz _ (by decide)) (fun g => g.elim (by omega) (np 110 (by decide))) i).2.2).trans (h3 i hi), fun i hi => rowOk_fr2 (h4 i hi) f.1 (.inl fun g => g.elim (by omega) (np _ (by omega))) (lvz _ (by omega))⟩
def takeQ (z : aSt) (T : Tr) (w : Nat) (rs : List Nat) (e c : Nat) (o : aRes) (z' : aSt) : Prop :=
  (wid T true ≤ 9 ∧ o = .inl none ∧ ∃ (z0 : aSt) (rs' : List Nat) (e' c' : Nat), frW (pts z T w) (tk0 z) z0 ∧ gZ z0 = gZ z ∧ gS z0 = gS z ∧ repP z0 T w ∧ numC z0 T w true 0 ∧ gI z0 104 0 = nI (wid T true) ∧ dutS z0 ∧ dutT z0 ∧ askT z0 ∧ pl z0 0 rs e c ∧ tkS z0 (ht T) rs e c (8 * wid T true) z' rs' e' c') ∨
  (9 < wid T true ∧ ∃ x, o = .inr x ∧ gT z' x = (14, 0) ∧ frW (pts z T w) (tk0 z) z' ∧ gZ z' = gZ z + 1 ∧ gS z' = gS z + 6)
theorem x_take {T : Tr} {w n : Nat} {z : aSt} {rs : List Nat} {e c : Nat} (hrep : repP z T w) (hnd : (pts z T w).Nodup) (hT0 : dutT z) (hB : bhd z) (hK : askT z) (hm : ht T ≤ 150) (hp : pl z n rs e c) : aW (2 * ht T + 9) 55 [.ref 104, .ref w] z (takeQ z T w rs e c) := by
  have hD : (gT z 104).1 = 3 := by rw [hT0.1]
  have s0 := tk0_shp z
  have hpts := pts_shp s0 T w hrep
  have hrep2 := repP_shp s0 T w hrep
  have p2 : pl (tk0 z) 0 rs e c := pl_lent (pl_many hp) (Nat.zero_le _)
  have hT2 : dutT (tk0 z) := hT0
  have hK2 : askT (tk0 z) := hK
  have hps : ∀ b, b ∈ pts z T w → okQ (tk0 z) b := fun b hb => pts_ok T w hrep b hb
  have m2 : gI (tk0 z) 104 0 = nI 0 := by unfold tk0; rw [gI_nk (by decide), gI_same]
  refine w_of (k := 55) (m := aM_X3_take) rfl rfl ?_
  refine w_nx (pc' := 1) rfl ?_
  refine w_nx (pc' := 2) (S' := .int (nI 0) :: _) rfl ?_
  refine w_put rfl rfl (hD) (by omega) rfl rfl rfl ?_
  refine w_nx (pc' := 6) rfl ?_
  refine w_nx (pc' := 7) (S' := .int (nI 0) :: _) rfl ?_
  refine w_put rfl rfl (hD) (by omega) rfl rfl rfl ?_
  refine w_nx (pc' := 11) rfl ?_
  refine w_nx (pc' := 12) rfl ?_
  refine w_nx (pc' := 13) (S' := .int (nI 1) :: _) rfl ?_
  obtain ⟨o, z3, e3, q⟩ := (x_walk T 0 w true 0 (tk0 z) hrep2 (by rw [hpts]; exact hnd) hT2 hB m2 (by decide)).le (show 0 + ht T + 2 ≤ 2 * ht T + 8 by omega)
  rcases q with ⟨g1, g2, g3, g4, g5, g6, g7, g8⟩ | ⟨g1, x, g2, g3, g4, g5, g6⟩
  · subst g2
    rw [hpts] at g6
    rw [Nat.zero_add] at g1 g3
    refine w_cal (pc' := 16) rfl (rfl) (e3) ?_
    refine w_nx (pc' := 17) (S' := .int (nI 0) :: _) rfl ?_
    refine w_nx (pc' := 18) rfl ?_
    have hT3 := dutT_frW hT2 g6
    have hK3 := askT_frW hK2 hT2 g6 hps
    have p3 := pl_frW hT2 p2 g6 hps
    have r3 := repP_shp g6.2.2.2.1 T w hrep2
    have hN : vI z3 104 0 = wid T true := vI_of g3 (by omega)
    have hS3 : dutS z3 := ⟨hT3.1, hT3.2.1, hT3.2.2.2.1, hT3.2.2.2.2.1, hT3.2.2.2.2.2.1, hT3.2.2.2.2.2.2.1, hT3.2.2.2.2.2.2.2.2.1, hT3.2.2.2.2.2.2.2.2.2.1, hT3.2.2.2.2.2.2.2.2.2.2.1, hT3.2.2.2.2.2.2.2.2.2.2.2, by omega⟩
    refine w_imp ?_ (x_take1 (d := 0) (w := w) hS3 hT3 hK3 hm g3 g1 (fun i hi => num_all T w true 0 r3 g5 (by omega) i (Nat.zero_le i) (by omega)) p3 (wid T true) 0 z3 rs e c _ _ (Nat.zero_add _) ⟨p3, pR_refl, Nat.le_max_left _ _, hK3.2.2.2, fun i hi => absurd hi (by omega)⟩)
    rintro o z' ⟨y1, rs', e', c', y2⟩
    exact .inl ⟨g1, y1, z3, rs', e', c', g6, g7, g8, r3, g5, g3, hS3, hT3, hK3, p3, y2⟩
  · subst g2
    rw [hpts] at g4
    rw [Nat.zero_add] at g1
    refine w_thr (rfl) (e3) rfl ?_
    exact .inr ⟨g1, x, rfl, g3, g4, g5, g6⟩
