/-! Duties.ask at every height; Duties.pass -/
set_option maxRecDepth 100000
theorem x_ask {z0 : aSt} (hS : dutS z0) : ∀ m, askQ z0 (askP z0 m) (wfP z0 m) (5 * m) (2 * m + 7)
  | 0 => fun _ _ _ _ _ _ _ _ h => False.elim h
  | m + 1 => x_ask1 hS (x_ask hS m)
theorem agr_refl (z : aSt) : agr z z := ⟨Nat.le_refl _, fun _ _ => rfl, fun _ _ _ _ _ _ _ _ => ⟨rfl, rfl⟩⟩
theorem pl_off {z : aSt} {n : Nat} {rs : List Nat} {e c r : Nat} (h : pl z n rs e c) (hr : r < 468) {j : Nat} : ∀ i, j ≤ i → i < rs.length → rs.getD i 0 ≠ r := by
  intro i _ h2 h3
  have := (h.2.2.2.2.2.2.2.2 _ (get_mem h2)).2.1
  omega
theorem tb_sb {t y : Nat} (h : sb t y) {v : Nat} (hv : t.testBit v = true) : y.testBit v = true := sb_iff.mp h v hv
theorem x_pass {d n l many src into : Nat} {rs : List Nat} {e c : Nat} {z : aSt} {F : Nat → Prop} {G : Nat → Nat → Prop} (hT : gT z 104 = (3, 0)) (hm : gI z 104 0 = nI many) (hm9 : many ≤ 9) (h6 : gR z 104 6 = some 110) (hT2 : gT z 110 = (46, 72)) (hR : ∀ i, i < 72 → gR z 110 i = some (112 + 2 * i))
    (hp : pl z n rs e c) (hn : n ≤ 800) (hZ : 368 ≤ gZ z) (hl : l < 8) (hf : isRow z src F) (hf4 : src < 467) (hi : rowOk z into) (hi4 : into < 467) (hfi : src ≠ into) (hG : ∀ v, v < many → isRow z (112 + 2 * (8 * v + l)) (G v) ∧ 112 + 2 * (8 * v + l) ≠ into) :
    aW (d + 9) 63 [.ref 104, .ref src, .int (nI l), .ref into] z (pQ n rs e c z into (n + 2) (fun x => ∃ y, F y ∧ ∀ v, v < many → y.testBit v = true → G v x)) := by
  have hlvs : ∀ b, b < 468 → lv z b := fun b hb => by unfold lv; omega
  have hoff := pl_off (j := n) hp (show into < 468 by omega)
  have hlv : lv z (into + 1) := hlvs _ (by omega)
  have S0 : pSt n rs e c z into n (max rs.length (n + 2)) z rs e c := ⟨hp, pR_refl, Nat.le_max_left _ _, hi⟩
  have hD : (gT z 104).1 = 3 := by rw [hT]
  refine w_of (k := 63) (m := aM_X3_pass) rfl rfl ?_
  refine w_nx (pc' := 1) rfl ?_
  obtain ⟨o, z1, e1, rs1, ee1, c1, q1, S1, k1, t1, l1, g1⟩ := st_lend (d := d + 1) S0 (Nat.le_refl n) (by omega) (by omega) hZ hlv hoff
  subst q1
  refine w_cal (pc' := 4) rfl (a_cv0 rfl rfl rfl (hD) rfl rfl) (e1) ?_
  have a1 := st_agr S1 (agr_refl z) hp hi
  have hD1 := S1.1.2.1
  have o1 := st_off S1 hlv hoff
  refine w_nx (pc' := 6) rfl ?_
  refine w_nx (pc' := 7) rfl ?_
  obtain ⟨o, z2, e2, rs2, ee2, c2, q1, S2, k2, t2, l2, g2⟩ := st_lend (d := d + 1) S1 (by omega) (by omega) (by omega) (Nat.le_trans hZ a1.1) o1.1 (fun i h1 h2 => o1.2 i (by omega) h2)
  subst q1
  refine w_cal (pc' := 10) rfl (a_cv0 rfl rfl rfl (hD1) rfl rfl) (e2) ?_
  have hX := isX_to S2 (isX_of S1 t1) l2 g2
  have hY := isX_of S2 t2
  have o2 := st_off S2 hlv hoff
  have xi : rs1.getD n 0 ≠ into := o1.2 n (Nat.le_refl n) t1
  have yi : rs2.getD (n + 1) 0 ≠ into := o2.2 (n + 1) (by omega) t2
  have xy : rs1.getD n 0 ≠ rs2.getD (n + 1) 0 := fun h => isX_off S2 hX (j' := n + 1) (by omega) (n + 1) (Nat.le_refl _) t2 h.symm
  have x4 : 468 ≤ rs1.getD n 0 := (S1.1.2.2.2.2.2.2.2.2 _ (get_mem t1)).2.1
  have y4 : 468 ≤ rs2.getD (n + 1) 0 := (S2.1.2.2.2.2.2.2.2.2 _ (get_mem t2)).2.1
  generalize rs1.getD n 0 = X at *
  generalize rs2.getD (n + 1) 0 = Y at *
  have a2 := st_agr S2 (agr_refl z) hp hi
  have kk : ∀ r U, isRow z r U → r < 467 → isRow z2 r U := fun r U hr h4 => k2 r U (k1 r U hr (hlvs _ (by omega)) (pl_off hp (by omega))) (lv_pR S1.2.1 (hlvs _ (by omega))) (pl_off S1.1 (by omega))
  have hf2 := kk src F hf hf4
  have hG2 : ∀ v, v < many → isRow z2 (112 + 2 * (8 * v + l)) (G v) := fun v hv => kk _ _ (hG v hv).1 (by omega)
  obtain ⟨lf, lf1, lf2, lf3⟩ := hf2
  have hlen := ok_len lf2
  have m2 : gI z2 104 0 = nI many := (a2.2.2 104 (hlvs _ (by decide)) (by rw [hT]; decide) (by rw [hT]; decide) (by rw [hT]; decide) (by rw [hT]; decide) 0 (by decide)).1.trans hm
  have h62 : gR z2 104 6 = some 110 := (a2.2.2 104 (hlvs _ (by decide)) (by rw [hT]; decide) (by rw [hT]; decide) (by rw [hT]; decide) (by rw [hT]; decide) 6 (by decide)).2.trans h6
  have hR2 : ∀ i, i < 72 → gR z2 110 i = some (112 + 2 * i) := fun i hi => (a2.2.2 110 (hlvs _ (by decide)) (by rw [hT2]; decide) (by rw [hT2]; decide) (by rw [hT2]; decide) (by rw [hT2]; decide) i (fun h => absurd h (by decide))).2.trans (hR i hi)
  have hT22 : gT z2 110 = (46, 72) := (a2.2.1 110 (hlvs _ (by decide))).trans hT2
  have hD2 := S2.1.2.1
  have hTi2 : (gT z2 into).1 = 4 := by rw [S2.2.2.2.1]
  have hTs2 : (gT z2 src).1 = 4 := by rw [lf1.1.1]
  have hTX2 : (gT z2 X).1 = 4 := by rw [hX.2.2.1.1]
  have hTY2 : (gT z2 Y).1 = 4 := by rw [hY.2.2.1.1]
  -- what stays while only the rows X, Y and into are written
  let P : Nat → Prop := fun b => rF X b ∨ rF Y b ∨ rF into b
  have nP : ∀ r, rowOk z2 r → r ≠ X → r ≠ Y → r ≠ into → ¬ P r ∧ ¬ P (r + 1) := fun r hr h1 h2 h3 => by
    have q1 := rF_off hr hX.2.2.1 h1
    have q2 := rF_off hr hY.2.2.1 h2
    have q3 := rF_off hr S2.2.2.2 h3
    exact ⟨fun g => g.elim q1.1 fun g => g.elim q2.1 q3.1, fun g => g.elim q1.2 fun g => g.elim q2.2 q3.2⟩
  have n104 : ¬ P 104 := fun g => g.elim (rF_104 hX.2.2.1 hD2) fun g => g.elim (rF_104 hY.2.2.1 hD2) (rF_104 S2.2.2.2 hD2)
  have inner : ∀ (k : Nat) (hk : k < lf.length) {Q : aRes → aSt → Prop} (next : ∀ z3, frI P z2 z3 → pSt n rs e c z into (n + 2) (max rs.length (n + 2)) z3 rs2 ee2 c2 → isRow z3 into (fun x => ∃ i, i < k ∧ ∀ v, v < many → (lf.getD i 0).testBit v = true → G v x) → isRow z3 X (fun x => ∀ v, v < many → (lf.getD k 0).testBit v = true → G v x) → wR (aEx (d + 8)) aM_X3_pass Q 95 [some (.ref 104), some (.ref src), some (.int (nI l)), some (.ref into), some (.ref X), some (.ref Y), some (.int (nI k)), some (.int (nI many))] [] z3),
      ∀ (q v : Nat) (z3 : aSt), v + q = many → frI P z2 z3 → pSt n rs e c z into (n + 2) (max rs.length (n + 2)) z3 rs2 ee2 c2 → isRow z3 into (fun x => ∃ i, i < k ∧ ∀ v, v < many → (lf.getD i 0).testBit v = true → G v x) → isRow z3 X (fun x => ∀ v', v' < v → (lf.getD k 0).testBit v' = true → G v' x) →
      wR (aEx (d + 8)) aM_X3_pass Q 36 [some (.ref 104), some (.ref src), some (.int (nI l)), some (.ref into), some (.ref X), some (.ref Y), some (.int (nI k)), some (.int (nI v))] [] z3 := by
    intro k hk Q next q
    induction q with
    | zero =>
      intro v z3 hv f3 S3 i3 x3
      have hD3 : (gT z3 104).1 = 3 := S3.1.2.1
      have m3 : gI z3 104 0 = nI many := (f3.2.2.2.2.2 104 n104 0).trans m2
      refine w_nx (pc' := 38) rfl ?_
      refine w_nx (pc' := 39) rfl ?_
      refine w_getI rfl rfl (hD3) rfl rfl ?_
      refine w_top (m3) ?_
      refine w_ncge rfl rfl rfl (rfl) (rfl) (by omega) (by omega) (fun hb => ?_) (fun hb => ?_)
      · have e : v = many := by omega
        rw [e]
        rw [e] at x3
        exact next z3 f3 S3 i3 x3
      · omega
    | succ q ih =>
      intro v z3 hv f3 S3 i3 x3
      have hD3 : (gT z3 104).1 = 3 := S3.1.2.1
      have m3 : gI z3 104 0 = nI many := (f3.2.2.2.2.2 104 n104 0).trans m2
      have ns := nP src lf1.1 (by omega) (by omega) hfi
      have lf3' := rowC_fr lf1 f3 ns.1 ns.2
      have hTs : (gT z3 src).1 = 4 := by rw [lf3'.1.1]
      have hlt := lf2.2.2 _ (get_mem hk)
      refine w_nx (pc' := 38) rfl ?_
      refine w_nx (pc' := 39) rfl ?_
      refine w_getI rfl rfl (hD3) rfl rfl ?_
      refine w_top (m3) ?_
      refine w_ncge rfl rfl rfl (rfl) (rfl) (by omega) (by omega) (fun hb => ?_) (fun hb => ?_)
      · omega
      · refine w_nx (pc' := 46) rfl ?_
        refine w_getR rfl rfl (hTs) (congrArg va_rf (lf3'.1.2.1)) rfl ?_
        refine w_nx (pc' := 51) rfl ?_
        refine w_ald rfl (fun _ _ _ _ _ _ => rfl) (lf3'.1.2.2.1) rfl (rfl) (by omega) (by decide) rfl rfl ?_
        refine w_top (lf3'.2.2 k hk) ?_
        refine w_nx (pc' := 54) rfl ?_
        refine w_nx (pc' := 55) rfl ?_
        refine w_nx (pc' := 56) (S' := .int (nI 1) :: _) rfl ?_
        refine w_nx (pc' := 57) rfl ?_
        refine w_top (nI_bit (by omega) (by omega)) ?_
        by_cases hbit : (lf.getD k 0).testBit v = true
        · rw [if_pos hbit]
          refine w_ifne rfl rfl rfl (fun _ => ?_) (fun h => absurd (show ¬ nI 1 = 0 by decide) h)
          have hX3 : rowOk z3 X := rowOk_fr hX.2.2.1 f3
          have hY3 : rowOk z3 Y := rowOk_fr hY.2.2.1 f3
          have hTY : (gT z3 Y).1 = 4 := by rw [hY3.1]
          have hTX : (gT z3 X).1 = 4 := by rw [hX3.1]
          refine w_nx (pc' := 65) rfl ?_
          refine w_nx (pc' := 67) rfl ?_
          obtain ⟨o, z4, e4, b1, b2, y4'⟩ := x_copy (d := d + 7) hY3 x3 (Ne.symm xy)
          subst b1
          refine w_cal (pc' := 70) rfl (a_cv0 rfl rfl rfl (hTY) rfl rfl) (e4) ?_
          obtain ⟨S4, k4⟩ := st_row S3 b2 hY3 (.inl ⟨n + 1, by omega, hY.1, hY.2.1⟩)
          have f4 := frI_trans f3 (frI_mono (G := P) b2 fun b g => .inr (.inl g))
          have h64 : gR z4 104 6 = some 110 := by rw [f4.2.2.1]; exact h62
          have hT24 : gT z4 110 = (46, 72) := by rw [f4.1]; exact hT22
          have hD4 := S4.1.2.1
          have hR4 : gR z4 110 (8 * v + l) = some (112 + 2 * (8 * v + l)) := by rw [f4.2.2.1]; exact hR2 _ (by omega)
          have ng := nP _ (isRow_ok (hG2 v hb)) (show 112 + 2 * (8 * v + l) ≠ X by omega) (show 112 + 2 * (8 * v + l) ≠ Y by omega) (hG v hb).2
          have hG4 := isRow_fr (hG2 v hb) f4 ng.1 ng.2
          have hX4 : rowOk z4 X := rowOk_fr hX3 b2
          have hTX4 : (gT z4 X).1 = 4 := by rw [hX4.1]
          refine w_nx (pc' := 72) rfl ?_
          refine w_nx (pc' := 74) rfl ?_
          refine w_nx (pc' := 75) rfl ?_
          refine w_getR rfl rfl (hD4) (congrArg va_rf (h64)) rfl ?_
          refine w_nx (pc' := 80) (S' := .int (nI 8) :: _) rfl ?_
          refine w_nx (pc' := 82) rfl ?_
          refine w_nx (pc' := 83) rfl ?_
          refine w_top (pk_mul _ _) ?_
          refine w_nx (pc' := 84) rfl ?_
          refine w_nx (pc' := 85) rfl ?_
          refine w_top (nI_add _ _) ?_
          refine w_ald rfl (fun _ _ _ _ _ _ => rfl) (hT24) rfl (rfl) (by omega) (by decide) (congrArg va_rf (hR4)) rfl ?_
          obtain ⟨o, z5, e5, b1, b3, x5⟩ := x_and (d := d + 6) hX4 y4' hG4 xy (by omega)
          subst b1
          refine w_cal (pc' := 89) rfl (a_cv0 rfl rfl rfl (hTX4) rfl rfl) (e5) ?_
          obtain ⟨S5, k5⟩ := st_row S4 b3 hX4 (.inl ⟨n, Nat.le_refl n, hX.1, hX.2.1⟩)
          refine w_iinc rfl rfl (nI_1 _) rfl rfl ?_
          refine w_nx (pc' := 36) rfl ?_
          have ii := rF_off (isRow_ok i3) hY3 (Ne.symm yi)
          have i4 := isRow_fr i3 b2 ii.1 ii.2
          have ii := rF_off (isRow_ok i4) hX4 (Ne.symm xi)
          refine ih (v + 1) z5 (by omega) (frI_trans f4 (frI_mono (G := P) b3 fun b g => .inl g)) S5 (isRow_fr i4 b3 ii.1 ii.2) (isRow_iff x5 fun x => ?_)
          constructor
          · intro h
            exact ⟨fun v' hv' hb' => h v' (by omega) hb', h v (by omega) hbit⟩
          · rintro ⟨h1, h2⟩ v' hv' hb'
            by_cases e : v' = v
            · rw [e]; exact h2
            · exact h1 v' (by omega) hb'
        · rw [if_neg hbit]
          refine w_ifne rfl rfl rfl (fun h => absurd rfl h) (fun _ => ?_)
          refine w_nx (pc' := 89) rfl ?_
          refine w_iinc rfl rfl (nI_1 _) rfl rfl ?_
          refine w_nx (pc' := 36) rfl ?_
          refine ih (v + 1) z3 (by omega) f3 S3 i3 (isRow_iff x3 fun x => ?_)
          constructor
          · intro h v' hv' hb'
            exact h v' (by omega) hb'
          · intro h v' hv' hb'
            by_cases e : v' = v
            · rw [e] at hb'; exact absurd hb' hbit
            · exact h v' (by omega) hb'
  have outer : ∀ (q k : Nat) (v7 : Option Value) (z3 : aSt), k + q = lf.length → frI P z2 z3 → pSt n rs e c z into (n + 2) (max rs.length (n + 2)) z3 rs2 ee2 c2 → isRow z3 into (fun x => ∃ i, i < k ∧ ∀ v, v < many → (lf.getD i 0).testBit v = true → G v x) →
      wR (aEx (d + 8)) aM_X3_pass (pQ n rs e c z into (n + 2) (fun x => ∃ y, F y ∧ ∀ v, v < many → y.testBit v = true → G v x)) 19 [some (.ref 104), some (.ref src), some (.int (nI l)), some (.ref into), some (.ref X), some (.ref Y), some (.int (nI k)), v7] [] z3 := by
    intro q
    induction q with
    | zero =>
      intro k v7 z3 hk f3 S3 i3
      have ns := nP src lf1.1 (by omega) (by omega) hfi
      have lf3' := rowC_fr lf1 f3 ns.1 ns.2
      have hTs : (gT z3 src).1 = 4 := by rw [lf3'.1.1]
      have hD3 := S3.1.2.1
      refine w_nx (pc' := 21) rfl ?_
      refine w_nx (pc' := 22) rfl ?_
      refine w_getI rfl rfl (hTs) rfl rfl ?_
      refine w_top (lf3'.2.1) ?_
      refine w_ncge rfl rfl rfl (rfl) (rfl) (by omega) (by omega) (fun hb => ?_) (fun hb => ?_)
      · refine w_nx (pc' := 108) rfl ?_
        refine w_nx (pc' := 109) rfl ?_
        refine w_getI rfl rfl (hD3) rfl rfl ?_
        refine w_top (S3.1.2.2.2.2.1) ?_
        refine w_nx (pc' := 113) (S' := .int (nI 2) :: _) rfl ?_
        refine w_nx (pc' := 114) rfl ?_
        refine w_top (pk_sub (by omega)) ?_
        refine w_put rfl rfl (hD3) (by omega) rfl rfl rfl ?_
        have fr0 : frI (fun b => b = 104) z3 (sI z3 104 8 (nI (n + 2 - 2))) := frI_sI rfl
        refine w_fin rfl (st_fin (e1 := ee2) (c1 := c2) (rs1 := rs2) ⟨pl_lent S3.1 (by have := S3.1.2.2.2.2.2.1; omega), pR_trans S3.2.1 pR_lent, S3.2.2.1, rowOk_fr S3.2.2.2 fr0⟩ (isRow_fr i3 fr0 (fun g => ?_) (fun g => ?_)) (fun x => ?_))
        · have := (isRow_ok i3).1; rw [g] at this; rw [this] at hD3; cases hD3
        · have := (isRow_ok i3).2.2.1; rw [g] at this; rw [this] at hD3; cases hD3
        · constructor
          · rintro ⟨y, hy, hh⟩
            obtain ⟨t, ht, hty⟩ := (lf3 y).mp hy
            obtain ⟨i, hi', e⟩ := List.getElem_of_mem ht
            have e2 : lf.getD i 0 = t := by rw [List.getD_eq_getElem?_getD, List.getElem?_eq_getElem hi']; exact e
            exact ⟨i, by omega, fun v hv hb' => hh v hv (tb_sb hty (by rw [e2] at hb'; exact hb'))⟩
          · rintro ⟨i, hi', hh⟩
            exact ⟨lf.getD i 0, (lf3 _).mpr ⟨_, get_mem (by omega), sb_refl _⟩, hh⟩
      · omega
    | succ q ih =>
      intro k v7 z3 hk f3 S3 i3
      have ns := nP src lf1.1 (by omega) (by omega) hfi
      have lf3' := rowC_fr lf1 f3 ns.1 ns.2
      have hTs : (gT z3 src).1 = 4 := by rw [lf3'.1.1]
      have hX3 : rowOk z3 X := rowOk_fr hX.2.2.1 f3
      have hTX : (gT z3 X).1 = 4 := by rw [hX3.1]
      refine w_nx (pc' := 21) rfl ?_
      refine w_nx (pc' := 22) rfl ?_
      refine w_getI rfl rfl (hTs) rfl rfl ?_
      refine w_top (lf3'.2.1) ?_
      refine w_ncge rfl rfl rfl (rfl) (rfl) (by omega) (by omega) (fun hb => ?_) (fun hb => ?_)
      · omega
      · refine w_nx (pc' := 30) rfl ?_
        obtain ⟨o, z4, e4, b1, b2, x4'⟩ := x_nothing (d := d + 7) hX3
        subst b1
        refine w_cal (pc' := 33) rfl (a_cv0 rfl rfl rfl (hTX) rfl rfl) (e4) ?_
        obtain ⟨S4, k4⟩ := st_row S3 b2 hX3 (.inl ⟨n, Nat.le_refl n, hX.1, hX.2.1⟩)
        have ii := rF_off (isRow_ok i3) hX3 (Ne.symm xi)
        refine w_nx (pc' := 34) (S' := .int (nI 0) :: _) rfl ?_
        refine w_nx (pc' := 36) rfl ?_
        refine inner k hb (fun z5 f5 S5 i5 x5 => ?_) many 0 z4 (by omega) (frI_trans f3 (frI_mono (G := P) b2 fun b g => .inl g)) S4 (isRow_fr i3 b2 ii.1 ii.2) (isRow_iff x4' fun x => ⟨fun _ => trivial, fun _ v' hv' => absurd hv' (Nat.not_lt_zero v')⟩)
        have hTi5 : (gT z5 into).1 = 4 := by rw [S5.2.2.2.1]
        refine w_nx (pc' := 96) rfl ?_
        refine w_nx (pc' := 98) rfl ?_
        obtain ⟨o, z6, e6, b1, b3, i6⟩ := x_or (d := d + 6) i5 x5 (Ne.symm xi)
        subst b1
        refine w_cal (pc' := 101) rfl (a_cv0 rfl rfl rfl (hTi5) rfl rfl) (e6) ?_
        obtain ⟨S6, k6⟩ := st_row S5 b3 S5.2.2.2 (.inr rfl)
        refine w_iinc rfl rfl (nI_1 _) rfl rfl ?_
        refine w_nx (pc' := 19) rfl ?_
        refine ih (k + 1) _ z6 (by omega) (frI_trans f5 (frI_mono (G := P) b3 fun b g => .inr (.inr g))) S6 (isRow_iff i6 fun x => ?_)
        constructor
        · rintro ⟨i, hi', hh⟩
          by_cases e : i = k
          · rw [e] at hh; exact .inr hh
          · exact .inl ⟨i, by omega, hh⟩
        · rintro (⟨i, hi', hh⟩ | hh)
          · exact ⟨i, by omega, hh⟩
          · exact ⟨k, by omega, hh⟩
  refine w_nx (pc' := 12) rfl ?_
  refine w_nx (pc' := 13) rfl ?_
  obtain ⟨o, z3, e3, b1, b2, i3⟩ := x_impossible (d := d + 7) S2.2.2.2
  subst b1
  refine w_cal (pc' := 16) rfl (a_cv0 rfl rfl rfl (hTi2) rfl rfl) (e3) ?_
  obtain ⟨S3, k3⟩ := st_row S2 b2 S2.2.2.2 (.inr rfl)
  refine w_nx (pc' := 17) (S' := .int (nI 0) :: _) rfl ?_
  refine w_nx (pc' := 19) rfl ?_
  exact outer lf.length 0 none z3 (by omega) (frI_mono (G := P) b2 fun b g => .inr (.inr g)) S3 (isRow_iff i3 fun x => ⟨fun ⟨i, h, _⟩ => absurd h (Nat.not_lt_zero i), False.elim⟩)
