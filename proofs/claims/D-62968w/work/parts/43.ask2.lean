/-! Duties.ask, walked -/
set_option maxRecDepth 100000
theorem st_fin {n B : Nat} {rs : List Nat} {e c : Nat} {z : aSt} {into : Nat} {z1 : aSt} {rs1 : List Nat} {e1 c1 : Nat} {U V : Nat → Prop} (h : pSt n rs e c z into n (max rs.length B) z1 rs1 e1 c1) (i : isRow z1 into U) (hu : ∀ x, V x ↔ U x) : pQ n rs e c z into B V (.inl none) z1 := ⟨rfl, rs1, e1, c1, h.1, h.2.1, h.2.2.1, isRow_iff i hu⟩
/-- X is the t-th row of the pool -/
def isX (z : aSt) (rs : List Nat) (t X : Nat) : Prop := t < rs.length ∧ rs.getD t 0 = X ∧ rowOk z X ∧ lv z (X + 1)
theorem isX_of {n j M t : Nat} {rs : List Nat} {e c : Nat} {z : aSt} {into : Nat} {z1 : aSt} {rs1 : List Nat} {e1 c1 : Nat} (h : pSt n rs e c z into j M z1 rs1 e1 c1) (ht : t < rs1.length) : isX z1 rs1 t (rs1.getD t 0) := ⟨ht, rfl, (st_get h ht).1, (st_get h ht).2⟩
theorem isX_to {n j M t X : Nat} {rs : List Nat} {e c : Nat} {z : aSt} {into : Nat} {z1 z2 : aSt} {rs1 rs2 : List Nat} {e2 c2 : Nat} (h : pSt n rs e c z into j M z2 rs2 e2 c2) (hx : isX z1 rs1 t X) (hl : rs1.length ≤ rs2.length) (he : ∀ i, i < rs1.length → rs2.getD i 0 = rs1.getD i 0) : isX z2 rs2 t X := by
  obtain ⟨h1, h2, _⟩ := hx
  have h3 := isX_of h (show t < rs2.length by omega)
  rw [he t h1, h2] at h3
  exact h3
theorem isX_off {n j M t X : Nat} {rs : List Nat} {e c : Nat} {z : aSt} {into : Nat} {z1 : aSt} {rs1 : List Nat} {e1 c1 : Nat} (h : pSt n rs e c z into j M z1 rs1 e1 c1) (hx : isX z1 rs1 t X) {j' : Nat} (ht : t < j') : ∀ i, j' ≤ i → i < rs1.length → rs1.getD i 0 ≠ X := by
  intro i h1 h2 h3
  exact st_nd h h2 hx.1 (by omega) (h3.trans hx.2.1.symm)
theorem x_ask1 {z0 : aSt} {A : Nat → Nat → Nat → Prop} {W : Nat → Prop} {B d : Nat} (hS : dutS z0) (hask : askQ z0 A W B (d + 7)) : askQ z0 (fun p l x => askK z0 A (vR z0 p 0) p l x) (wfQ z0 W) (B + 5) (d + 9) := by
  intro p l into n rs e c z hw hP hB
  have hP0 := hP
  obtain ⟨hA, hl, hp, hr, hlv, hoff⟩ := hP
  obtain ⟨w1, w2, w3⟩ := hw
  obtain ⟨f1, f2⟩ := prt_agr hS w1 hA
  have hTi : (gT z into).1 = 4 := by rw [hr.1]
  have S0 : pSt n rs e c z into n (max rs.length (n + (B + 5))) z rs e c := ⟨hp, pR_refl, Nat.le_max_left _ _, hr⟩
  by_cases hK0 : vR z0 p 0 = 0
  · have v2 : vI z0 p 3 < 256 := by rcases w3 with h | h | h | h | h | h <;> omega
    refine w_of (k := 62) (m := aM_X3_ask) rfl rfl ?_
    refine w_nx (pc' := 1) rfl ?_
    refine w_getR rfl rfl (f1) (congrArg va_rf ((f2 0).2.trans (w2.trans (congrArg some hK0)))) rfl ?_
    refine w_nx (pc' := 7) rfl ?_
    refine w_an (u := some 0) (v := some 0) rfl rfl rfl rfl (fun h => absurd rfl h) (fun _ => ?_)
    refine w_nx (pc' := 11) rfl ?_
    refine w_getI rfl rfl (f1) rfl rfl ?_
    refine w_top ((f2 3).1) ?_
    refine w_nx (pc' := 15) rfl ?_
    refine w_nx (pc' := 16) rfl ?_
    refine w_nx (pc' := 17) (S' := .int (nI 1) :: _) rfl ?_
    refine w_nx (pc' := 18) rfl ?_
    refine w_top (nI_bit (by omega) (by omega)) ?_
    refine w_nx (pc' := 19) (S' := .int (nI 1) :: _) rfl ?_
    by_cases hb : (vI z0 p 3).testBit l = true
    · rw [if_pos hb]
      refine w_icne rfl rfl rfl (fun h => absurd rfl h) (fun _ => ?_)
      refine w_nx (pc' := 23) rfl ?_
      obtain ⟨o, z1, e1, q1, q2, q3⟩ := x_nothing (d := d + 7) hr
      subst q1
      refine w_cal (pc' := 26) rfl (a_cv0 rfl rfl rfl (hTi) rfl rfl) (e1) ?_
      refine w_nx (pc' := 33) rfl ?_
      exact w_fin rfl (st_fin (st_row S0 q2 hr (.inr rfl)).1 q3 (fun x => by show askK z0 A (vR z0 p 0) p l x ↔ _; rw [hK0]; exact ⟨fun _ => trivial, fun _ => hb⟩))
    · rw [if_neg hb]
      refine w_icne rfl rfl rfl (fun _ => ?_) (fun h => absurd (show ¬ nI 0 = nI 1 by decide) h)
      refine w_nx (pc' := 30) rfl ?_
      obtain ⟨o, z1, e1, q1, q2, q3⟩ := x_impossible (d := d + 7) hr
      subst q1
      refine w_cal (pc' := 33) rfl (a_cv0 rfl rfl rfl (hTi) rfl rfl) (e1) ?_
      exact w_fin rfl (st_fin (st_row S0 q2 hr (.inr rfl)).1 q3 (fun x => by show askK z0 A (vR z0 p 0) p l x ↔ _; rw [hK0]; exact ⟨fun h => absurd h hb, False.elim⟩))
  by_cases hK2 : vR z0 p 0 = 2
  · have v2 : gR z0 p 1 = some (vR z0 p 1) ∧ okP z0 (vR z0 p 1) ∧ vI z0 (vR z0 p 1) 6 < 9 := by
      rcases w3 with h | h | h | h | h | h
      · omega
      · exact h.2
      all_goals omega
    obtain ⟨v1, v3, v4⟩ := v2
    obtain ⟨h1, h2⟩ := prt_agr hS v3 hA
    refine w_of (k := 62) (m := aM_X3_ask) rfl rfl ?_
    refine w_nx (pc' := 1) rfl ?_
    refine w_getR rfl rfl (f1) (congrArg va_rf ((f2 0).2.trans (w2.trans (congrArg some hK2)))) rfl ?_
    refine w_nx (pc' := 7) rfl ?_
    refine w_an (u := some 2) (v := some 0) rfl rfl rfl rfl (fun _ => ?_) (fun h => by cases h)
    refine w_nx (pc' := 35) rfl ?_
    refine w_getR rfl rfl (f1) (congrArg va_rf ((f2 0).2.trans (w2.trans (congrArg some hK2)))) rfl ?_
    refine w_nx (pc' := 41) rfl ?_
    refine w_an (u := some 2) (v := some 2) rfl rfl rfl rfl (fun h => absurd rfl h) (fun _ => ?_)
    refine w_nx (pc' := 45) rfl ?_
    refine w_nx (pc' := 46) (S' := .int (nI 1) :: _) rfl ?_
    refine w_nx (pc' := 47) rfl ?_
    refine w_getR rfl rfl (f1) (congrArg va_rf ((f2 1).2.trans v1)) rfl ?_
    refine w_getI rfl rfl (h1) rfl rfl ?_
    refine w_top ((h2 6).1) ?_
    refine w_nx (pc' := 54) rfl ?_
    refine w_top (nI_pow v4) ?_
    obtain ⟨o, z1, e1, q1, q2, q3⟩ := x_one (d := d + 7) hr (two_lt v4)
    subst q1
    refine w_cal (pc' := 57) rfl (a_cv0 rfl rfl rfl (hTi) rfl rfl) (e1) ?_
    exact w_fin rfl (st_fin (st_row S0 q2 hr (.inr rfl)).1 q3 (fun x => by show askK z0 A (vR z0 p 0) p l x ↔ _; rw [hK2]; exact Iff.rfl))
  have hKlt : vR z0 p 0 < 13 := by rcases w3 with h | h | h | h | h | h <;> omega
  have hd0 := dut_agr hS hA
  have hD := hd0.1
  refine w_of (k := 62) (m := aM_X3_ask) rfl rfl ?_
  refine w_nx (pc' := 1) rfl ?_
  refine w_getR rfl rfl (f1) (congrArg va_rf ((f2 0).2.trans w2)) rfl ?_
  refine w_nx (pc' := 7) rfl ?_
  refine w_an (u := some (vR z0 p 0)) (v := some 0) rfl rfl rfl (a_cmp_lt hKlt (by decide)) (fun _ => ?_) (fun h => absurd (Option.some.inj h) hK0)
  refine w_nx (pc' := 35) rfl ?_
  refine w_getR rfl rfl (f1) (congrArg va_rf ((f2 0).2.trans w2)) rfl ?_
  refine w_nx (pc' := 41) rfl ?_
  refine w_an (u := some (vR z0 p 0)) (v := some 2) rfl rfl rfl (a_cmp_lt hKlt (by decide)) (fun _ => ?_) (fun h => absurd (Option.some.inj h) hK2)
  refine w_nx (pc' := 59) rfl ?_
  obtain ⟨o, z1, e1, rs1, ee1, c1, q1, S1, k1, t1, l1, g1⟩ := st_lend (d := d + 1) S0 (Nat.le_refl n) (by omega) (by omega) hd0.2.1 hlv hoff
  subst q1
  refine w_cal (pc' := 62) rfl (a_cv0 rfl rfl rfl (hD) rfl rfl) (e1) ?_
  have a1 := st_agr S1 hA hp hr
  have hd1 := dut_agr hS a1
  have hD1 := hd1.1
  have o1 := st_off S1 hlv hoff
  refine w_nx (pc' := 64) rfl ?_
  refine w_nx (pc' := 65) rfl ?_
  obtain ⟨o, z2, e2, rs2, ee2, c2, q1, S2, k2, t2, l2, g2⟩ := st_lend (d := d + 1) S1 (by omega) (by omega) (by omega) hd1.2.1 o1.1 (fun i h1 h2 => o1.2 i (by omega) h2)
  subst q1
  refine w_cal (pc' := 68) rfl (a_cv0 rfl rfl rfl (hD1) rfl rfl) (e2) ?_
  have hX := isX_to S2 (isX_of S1 t1) l2 g2
  have hY := isX_of S2 t2
  have o2 := st_off S2 hlv hoff
  have xi : rs1.getD n 0 ≠ into := o1.2 n (Nat.le_refl n) t1
  have yi : rs2.getD (n + 1) 0 ≠ into := o2.2 (n + 1) (by omega) t2
  have xy : rs1.getD n 0 ≠ rs2.getD (n + 1) 0 := fun h => isX_off S2 hX (j' := n + 1) (by omega) (n + 1) (Nat.le_refl _) t2 h.symm
  generalize rs1.getD n 0 = X at *
  generalize rs2.getD (n + 1) 0 = Y at *
  have a2 := st_agr S2 hA hp hr
  obtain ⟨f3, f4⟩ := prt_agr hS w1 a2
  refine w_nx (pc' := 70) rfl ?_
  have tail : ∀ (z6 : aSt) (rs6 : List Nat) (e6 c6 : Nat) (v6 : Option Value) (U : Nat → Prop), pSt n rs e c z into (n + 2) (max rs.length (n + (B + 5))) z6 rs6 e6 c6 → isRow z6 into U → (∀ x, askK z0 A (vR z0 p 0) p l x ↔ U x) →
      wR (aEx (d + 8)) aM_X3_ask (pQ n rs e c z into (n + (B + 5)) (fun x => askK z0 A (vR z0 p 0) p l x)) 337 [some (.ref 104), some (.ref p), some (.int (nI l)), some (.ref into), some (.ref X), some (.ref Y), v6] [] z6 := by
    intro z6 rs6 e6 c6 v6 U S6 i6 hU
    have hD6 := S6.1.2.1
    refine w_nx (pc' := 338) rfl ?_
    refine w_nx (pc' := 339) rfl ?_
    refine w_getI rfl rfl (hD6) rfl rfl ?_
    refine w_top (S6.1.2.2.2.2.1) ?_
    refine w_nx (pc' := 343) (S' := .int (nI 2) :: _) rfl ?_
    refine w_nx (pc' := 344) rfl ?_
    refine w_top (pk_sub (by omega)) ?_
    refine w_put rfl rfl (hD6) (by omega) rfl rfl rfl ?_
    have fr0 : frI (fun b => b = 104) z6 (sI z6 104 8 (nI (n + 2 - 2))) := frI_sI rfl
    refine w_fin rfl (st_fin (e1 := e6) (c1 := c6) (rs1 := rs6) ⟨pl_lent S6.1 (by have := S6.1.2.2.2.2.2.1; omega), pR_trans S6.2.1 pR_lent, S6.2.2.1, rowOk_fr S6.2.2.2 fr0⟩ (isRow_fr i6 fr0 (fun g => ?_) (fun g => ?_)) hU)
    · have := (isRow_ok i6).1; rw [g] at this; rw [this] at hD6; cases hD6
    · have := (isRow_ok i6).2.2.1; rw [g] at this; rw [this] at hD6; cases hD6
  have hask' : ∀ (p l into n : Nat) (rs : List Nat) (e c : Nat) (z : aSt), W p → pP z0 n rs e c z into l → n + B ≤ 900 → aW (d + 8) 62 [.ref 104, .ref p, .int (nI l), .ref into] z (pQ n rs e c z into (n + B) (A p l)) := fun p l into n rs e c z h1 h2 h3 => (hask p l into n rs e c z h1 h2 h3).up
  rcases w3 with h | h | h | h | h | h
  · exact absurd h.1 hK0
  · exact absurd h.1 hK2
  · -- ALWAYS
    obtain ⟨v, v1, v2, v3⟩ := h
    refine w_nx (pc' := 71) rfl ?_
    refine w_getR rfl rfl (f3) (congrArg va_rf ((f4 0).2.trans (w2.trans (congrArg some v)))) rfl ?_
    refine w_nx (pc' := 77) rfl ?_
    refine w_nx (pc' := 120) rfl ?_
    refine w_nx (pc' := 121) rfl ?_
    refine w_nx (pc' := 122) rfl ?_
    refine w_getR rfl rfl (f3) (congrArg va_rf ((f4 1).2.trans v1)) rfl ?_
    refine w_nx (pc' := 126) rfl ?_
    refine w_nx (pc' := 128) rfl ?_
    obtain ⟨o, z3, e3, b1⟩ := hask' (vR z0 p 1) l X (n + 2) rs2 ee2 c2 z2 v2 ⟨a2, hl, S2.1, hX.2.2.1, hX.2.2.2, isX_off S2 hX (by omega)⟩ (by omega)
    obtain ⟨b2, rs3, ee3, c3, S3, x3, k3⟩ := st_call S2 (by omega) (by omega) hX.2.2.1 (.inl ⟨n, Nat.le_refl n, hX.1, hX.2.1⟩) o2.1 (fun i h1 h2 => o2.2 i (by omega) h2) b1
    subst b2
    refine w_cal (pc' := 131) rfl (rfl) (e3) ?_
    have hY3 := isX_to S3 hY k3.2.1 k3.2.2
    have hTY3 : (gT z3 Y).1 = 4 := by rw [hY3.2.2.1.1]
    obtain ⟨f5, f6⟩ := prt_agr hS w1 (st_agr S3 hA hp hr)
    refine w_nx (pc' := 133) rfl ?_
    refine w_nx (pc' := 134) (S' := .int (nI 1) :: _) rfl ?_
    refine w_nx (pc' := 135) rfl ?_
    refine w_getI rfl rfl (f5) rfl rfl ?_
    refine w_top ((f6 6).1) ?_
    refine w_nx (pc' := 139) rfl ?_
    refine w_top (nI_pow v3) ?_
    obtain ⟨o, z4, e4, b1, b2, y4⟩ := x_one (d := d + 7) hY3.2.2.1 (two_lt v3)
    subst b1
    refine w_cal (pc' := 142) rfl (a_cv0 rfl rfl rfl (hTY3) rfl rfl) (e4) ?_
    obtain ⟨S4, k4⟩ := st_row S3 b2 hY3.2.2.1 (.inl ⟨n + 1, by omega, hY3.1, hY3.2.1⟩)
    have hX3 := isX_to S3 hX k3.2.1 k3.2.2
    have x4 := k4.1 X _ x3 xy hX3.2.2.2 (isX_off S3 hX3 (by omega))
    have hTi4 : (gT z4 into).1 = 4 := by rw [S4.2.2.2.1]
    refine w_nx (pc' := 143) rfl ?_
    refine w_nx (pc' := 145) rfl ?_
    refine w_nx (pc' := 147) rfl ?_
    obtain ⟨o, z5, e5, b1, b2, i5⟩ := x_and (d := d + 6) S4.2.2.2 x4 y4 (Ne.symm xi) (Ne.symm yi)
    subst b1
    refine w_cal (pc' := 150) rfl (a_cv0 rfl rfl rfl (hTi4) rfl rfl) (e5) ?_
    refine w_nx (pc' := 337) rfl ?_
    refine tail z5 rs3 ee3 c3 _ _ (st_row S4 b2 S4.2.2.2 (.inr rfl)).1 i5 (fun x => ?_)
    rw [v]
    exact Iff.rfl
  · -- OVERLAP, BEHIND
    obtain ⟨v, v1, v2⟩ := h
    have hU : ∀ x, askK z0 A (vR z0 p 0) p l x ↔ ∀ k, k < vI z0 104 0 → (vI z0 p 7).testBit k = true → plcP z0 A k l x := fun x => (by rcases v with v | v <;> rw [v] <;> exact Iff.rfl)
    have hm9 : vI z0 104 0 ≤ 9 := hS.2.2.2.2.2.2.2.2.2.2
    have step : ∀ {Q : aRes → aSt → Prop}, wR (aEx (d + 8)) aM_X3_ask Q 153 [some (.ref 104), some (.ref p), some (.int (nI l)), some (.ref into), some (.ref X), some (.ref Y), none] [] z2 → wR (aEx (d + 8)) aM_X3_ask Q 70 [some (.ref 104), some (.ref p), some (.int (nI l)), some (.ref into), some (.ref X), some (.ref Y), none] [] z2 := by
      intro Q hq
      rcases v with v | v
      · have v9 := v
        refine w_nx (pc' := 71) rfl ?_
        refine w_getR rfl rfl (f3) (congrArg va_rf ((f4 0).2.trans (w2.trans (congrArg some v)))) rfl ?_
        refine w_nx (pc' := 77) rfl ?_
        refine w_nx (pc' := 153) rfl ?_
        exact hq
      · have v9 := v
        refine w_nx (pc' := 71) rfl ?_
        refine w_getR rfl rfl (f3) (congrArg va_rf ((f4 0).2.trans (w2.trans (congrArg some v)))) rfl ?_
        refine w_nx (pc' := 77) rfl ?_
        refine w_nx (pc' := 153) rfl ?_
        exact hq
    refine step ?_
    have loop : ∀ (q k : Nat) (z3 : aSt) (rs3 : List Nat) (e3 c3 : Nat), k + q = vI z0 104 0 → pSt n rs e c z into (n + 2) (max rs.length (n + (B + 5))) z3 rs3 e3 c3 → isX z3 rs3 n X → isX z3 rs3 (n + 1) Y → isRow z3 into (fun x => ∀ k', k' < k → (vI z0 p 7).testBit k' = true → plcP z0 A k' l x) →
        wR (aEx (d + 8)) aM_X3_ask (pQ n rs e c z into (n + (B + 5)) (fun x => askK z0 A (vR z0 p 0) p l x)) 160 [some (.ref 104), some (.ref p), some (.int (nI l)), some (.ref into), some (.ref X), some (.ref Y), some (.int (nI k))] [] z3 := by
      intro q
      induction q with
      | zero =>
        intro k z3 rs3 e3 c3 hk S3 hX3 hY3 i3
        have hd3 := dut_agr hS (st_agr S3 hA hp hr)
        refine w_nx (pc' := 162) rfl ?_
        refine w_nx (pc' := 163) rfl ?_
        refine w_getI rfl rfl (hd3.1) rfl rfl ?_
        refine w_top (hd3.2.2.2.2.2.2.2.2.2.2.1) ?_
        refine w_ncge rfl rfl rfl (rfl) (rfl) (by omega) (by omega) (fun hb => ?_) (fun hb => ?_)
        · refine w_nx (pc' := 337) rfl ?_
          exact tail z3 rs3 e3 c3 _ _ S3 i3 (fun x => (hU x).trans (by rw [show vI z0 104 0 = k by omega]))
        · omega
      | succ q ih =>
        intro k z3 rs3 e3 c3 hk S3 hX3 hY3 i3
        have a3 := st_agr S3 hA hp hr
        have hd3 := dut_agr hS a3
        obtain ⟨f5, f6⟩ := prt_agr hS w1 a3
        have o3 := st_off S3 hlv hoff
        refine w_nx (pc' := 162) rfl ?_
        refine w_nx (pc' := 163) rfl ?_
        refine w_getI rfl rfl (hd3.1) rfl rfl ?_
        refine w_top (hd3.2.2.2.2.2.2.2.2.2.2.1) ?_
        refine w_ncge rfl rfl rfl (rfl) (rfl) (by omega) (by omega) (fun hb => ?_) (fun hb => ?_)
        · omega
        · refine w_nx (pc' := 170) rfl ?_
          refine w_getI rfl rfl (f5) rfl rfl ?_
          refine w_top ((f6 7).1) ?_
          refine w_nx (pc' := 175) rfl ?_
          refine w_nx (pc' := 176) rfl ?_
          refine w_nx (pc' := 177) (S' := .int (nI 1) :: _) rfl ?_
          refine w_nx (pc' := 178) rfl ?_
          refine w_top (nI_bit (by omega) (by omega)) ?_
          by_cases hbit : (vI z0 p 7).testBit k = true
          · rw [if_pos hbit]
            refine w_ifne rfl rfl rfl (fun _ => ?_) (fun h => absurd (show ¬ nI 1 = 0 by decide) h)
            have hTX : (gT z3 X).1 = 4 := by rw [hX3.2.2.1.1]
            refine w_nx (pc' := 186) rfl ?_
            refine w_nx (pc' := 187) rfl ?_
            obtain ⟨o, z4, e4, b1, b2, x4⟩ := x_copy (d := d + 7) hX3.2.2.1 i3 xi
            subst b1
            refine w_cal (pc' := 190) rfl (a_cv0 rfl rfl rfl (hTX) rfl rfl) (e4) ?_
            obtain ⟨S4, k4⟩ := st_row S3 b2 hX3.2.2.1 (.inl ⟨n, Nat.le_refl n, hX3.1, hX3.2.1⟩)
            have hX4 := isX_to S4 hX3 k4.2.1 k4.2.2
            have hY4 := isX_to S4 hY3 k4.2.1 k4.2.2
            have o4 := st_off S4 hlv hoff
            refine w_nx (pc' := 191) rfl ?_
            refine w_nx (pc' := 193) rfl ?_
            refine w_nx (pc' := 194) rfl ?_
            refine w_nx (pc' := 196) rfl ?_
            obtain ⟨o, z5, e5, b1⟩ := x_place (d := d) hS hask (k := k) (by omega) (v2 k (by omega) hbit) ⟨st_agr S4 hA hp hr, hl, S4.1, hY4.2.2.1, hY4.2.2.2, isX_off S4 hY4 (show n + 1 < n + 2 by omega)⟩ (by omega)
            obtain ⟨b2, rs5, ee5, c5, S5, y5, k5⟩ := st_call (B := 2 + B) S4 (by omega) (by omega) hY4.2.2.1 (.inl ⟨n + 1, by omega, hY4.1, hY4.2.1⟩) o4.1 (fun i h1 h2 => o4.2 i (by omega) h2) (by rw [← Nat.add_assoc]; exact b1)
            subst b2
            refine w_cal (pc' := 199) rfl (rfl) (e5) ?_
            have x5 := k5.1 X _ x4 xy hX4.2.2.2 (isX_off S4 hX4 (by omega))
            have hTi5 : (gT z5 into).1 = 4 := by rw [S5.2.2.2.1]
            refine w_nx (pc' := 200) rfl ?_
            refine w_nx (pc' := 202) rfl ?_
            refine w_nx (pc' := 204) rfl ?_
            obtain ⟨o, z6, e6, b1, b2, i6⟩ := x_and (d := d + 6) S5.2.2.2 x5 y5 (Ne.symm xi) (Ne.symm yi)
            subst b1
            refine w_cal (pc' := 207) rfl (a_cv0 rfl rfl rfl (hTi5) rfl rfl) (e6) ?_
            obtain ⟨S6, k6⟩ := st_row S5 b2 S5.2.2.2 (.inr rfl)
            refine w_iinc rfl rfl (nI_1 _) rfl rfl ?_
            refine w_nx (pc' := 160) rfl ?_
            refine ih (k + 1) z6 rs5 ee5 c5 (by omega) S6 (isX_to S6 (isX_to S5 hX4 k5.2.1 k5.2.2) k6.2.1 k6.2.2) (isX_to S6 (isX_to S5 hY4 k5.2.1 k5.2.2) k6.2.1 k6.2.2) (isRow_iff i6 fun x => ?_)
            constructor
            · intro h
              exact ⟨fun k' hk' hb' => h k' (by omega) hb', h k (by omega) hbit⟩
            · rintro ⟨h1, h2⟩ k' hk' hb'
              by_cases e : k' = k
              · rw [e]; exact h2
              · exact h1 k' (by omega) hb'
          · rw [if_neg hbit]
            refine w_ifne rfl rfl rfl (fun h => absurd rfl h) (fun _ => ?_)
            refine w_nx (pc' := 207) rfl ?_
            refine w_iinc rfl rfl (nI_1 _) rfl rfl ?_
            refine w_nx (pc' := 160) rfl ?_
            refine ih (k + 1) z3 rs3 e3 c3 (by omega) S3 hX3 hY3 (isRow_iff i3 fun x => ?_)
            constructor
            · intro h k' hk' hb'
              exact h k' (by omega) hb'
            · intro h k' hk' hb'
              by_cases e : k' = k
              · rw [e] at hb'; exact absurd hb' hbit
              · exact h k' (by omega) hb'
    have hTi2 : (gT z2 into).1 = 4 := by rw [S2.2.2.2.1]
    refine w_nx (pc' := 154) rfl ?_
    obtain ⟨o, z3, e3, b1, b2, i3⟩ := x_nothing (d := d + 7) S2.2.2.2
    subst b1
    refine w_cal (pc' := 157) rfl (a_cv0 rfl rfl rfl (hTi2) rfl rfl) (e3) ?_
    obtain ⟨S3, k3⟩ := st_row S2 b2 S2.2.2.2 (.inr rfl)
    refine w_nx (pc' := 158) (S' := .int (nI 0) :: _) rfl ?_
    refine w_nx (pc' := 160) rfl ?_
    exact loop (vI z0 104 0) 0 z3 rs2 ee2 c2 (by omega) S3 (isX_to S3 hX k3.2.1 k3.2.2) (isX_to S3 hY k3.2.1 k3.2.2) (isRow_iff i3 fun x => ⟨fun _ => trivial, fun _ k' hk' => absurd hk' (Nat.not_lt_zero k')⟩)
  · -- UNTIL
    obtain ⟨v, v1, v2, v3, v4, v5⟩ := h
    have hd2 := dut_agr hS a2
    have hD2 := hd2.1
    refine w_nx (pc' := 71) rfl ?_
    refine w_getR rfl rfl (f3) (congrArg va_rf ((f4 0).2.trans (w2.trans (congrArg some v)))) rfl ?_
    refine w_nx (pc' := 77) rfl ?_
    refine w_nx (pc' := 216) rfl ?_
    refine w_nx (pc' := 217) rfl ?_
    obtain ⟨o, z3, e3, rs3, ee3, c3, q1, S3, k3, t3, l3, g3⟩ := st_lend (d := d + 1) S2 (by omega) (by omega) (by omega) hd2.2.1 o2.1 (fun i h1 h2 => o2.2 i (by omega) h2)
    subst q1
    refine w_cal (pc' := 220) rfl (a_cv0 rfl rfl rfl (hD2) rfl rfl) (e3) ?_
    have hX3 := isX_to S3 hX l3 g3
    have hY3 := isX_to S3 hY l3 g3
    have hZ3 := isX_of S3 t3
    have o3 := st_off S3 hlv hoff
    have zi : rs3.getD (n + 2) 0 ≠ into := o3.2 (n + 2) (by omega) t3
    have xz : X ≠ rs3.getD (n + 2) 0 := fun h => isX_off S3 hX3 (j' := n + 1) (by omega) (n + 2) (by omega) t3 h.symm
    have yz : Y ≠ rs3.getD (n + 2) 0 := fun h => isX_off S3 hY3 (j' := n + 2) (by omega) (n + 2) (by omega) t3 h.symm
    generalize rs3.getD (n + 2) 0 = Zr at *
    have a3 := st_agr S3 hA hp hr
    obtain ⟨f5, f6⟩ := prt_agr hS w1 a3
    refine w_nx (pc' := 222) rfl ?_
    refine w_nx (pc' := 223) rfl ?_
    refine w_nx (pc' := 224) rfl ?_
    refine w_getR rfl rfl (f5) (congrArg va_rf ((f6 1).2.trans v1)) rfl ?_
    refine w_nx (pc' := 228) rfl ?_
    refine w_nx (pc' := 230) rfl ?_
    obtain ⟨o, z4, e4, b1⟩ := hask' (vR z0 p 1) l X (n + 3) rs3 ee3 c3 z3 v2 ⟨a3, hl, S3.1, hX3.2.2.1, hX3.2.2.2, isX_off S3 hX3 (by omega)⟩ (by omega)
    obtain ⟨b2, rs4, ee4, c4, S4, x4, k4⟩ := st_call S3 (by omega) (by omega) hX3.2.2.1 (.inl ⟨n, Nat.le_refl n, hX3.1, hX3.2.1⟩) o3.1 (fun i h1 h2 => o3.2 i (by omega) h2) b1
    subst b2
    refine w_cal (pc' := 233) rfl (rfl) (e4) ?_
    have hX4 := isX_to S4 hX3 k4.2.1 k4.2.2
    have hY4 := isX_to S4 hY3 k4.2.1 k4.2.2
    have hZ4 := isX_to S4 hZ3 k4.2.1 k4.2.2
    have hTY4 : (gT z4 Y).1 = 4 := by rw [hY4.2.2.1.1]
    obtain ⟨f7, f8⟩ := prt_agr hS w1 (st_agr S4 hA hp hr)
    refine w_nx (pc' := 235) rfl ?_
    refine w_nx (pc' := 236) (S' := .int (nI 1) :: _) rfl ?_
    refine w_nx (pc' := 237) rfl ?_
    refine w_getI rfl rfl (f7) rfl rfl ?_
    refine w_top ((f8 6).1) ?_
    refine w_nx (pc' := 241) rfl ?_
    refine w_top (nI_pow v5) ?_
    obtain ⟨o, z5, e5, b1, b2, y5⟩ := x_one (d := d + 7) hY4.2.2.1 (two_lt v5)
    subst b1
    refine w_cal (pc' := 244) rfl (a_cv0 rfl rfl rfl (hTY4) rfl rfl) (e5) ?_
    obtain ⟨S5, k5⟩ := st_row S4 b2 hY4.2.2.1 (.inl ⟨n + 1, by omega, hY4.1, hY4.2.1⟩)
    have x5 := k5.1 X _ x4 xy hX4.2.2.2 (isX_off S4 hX4 (by omega))
    have hZ5 := isX_to S5 hZ4 k5.2.1 k5.2.2
    have hTZ5 : (gT z5 Zr).1 = 4 := by rw [hZ5.2.2.1.1]
    refine w_nx (pc' := 246) rfl ?_
    refine w_nx (pc' := 248) rfl ?_
    refine w_nx (pc' := 250) rfl ?_
    obtain ⟨o, z6, e6, b1, b2, zz6⟩ := x_and (d := d + 6) hZ5.2.2.1 x5 y5 (Ne.symm xz) (Ne.symm yz)
    subst b1
    refine w_cal (pc' := 253) rfl (a_cv0 rfl rfl rfl (hTZ5) rfl rfl) (e6) ?_
    obtain ⟨S6, k6⟩ := st_row S5 b2 hZ5.2.2.1 (.inl ⟨n + 2, by omega, hZ5.1, hZ5.2.1⟩)
    have a6 := st_agr S6 hA hp hr
    obtain ⟨f9, f10⟩ := prt_agr hS w1 a6
    have o6 := st_off S6 hlv hoff
    refine w_nx (pc' := 254) rfl ?_
    refine w_nx (pc' := 255) rfl ?_
    refine w_getR rfl rfl (f9) (congrArg va_rf ((f10 2).2.trans v3)) rfl ?_
    refine w_nx (pc' := 259) rfl ?_
    refine w_nx (pc' := 260) rfl ?_
    obtain ⟨o, z7, e7, b1⟩ := hask' (vR z0 p 2) l into (n + 3) rs4 ee4 c4 z6 v4 ⟨a6, hl, S6.1, S6.2.2.2, o6.1, fun i h1 h2 => o6.2 i (by omega) h2⟩ (by omega)
    obtain ⟨b2, rs7, ee7, c7, S7, i7, k7⟩ := st_call S6 (by omega) (by omega) S6.2.2.2 (.inr rfl) o6.1 (fun i h1 h2 => o6.2 i (by omega) h2) b1
    subst b2
    refine w_cal (pc' := 263) rfl (rfl) (e7) ?_
    have hZ6 := isX_to S6 hZ5 k6.2.1 k6.2.2
    have zz7 := k7.1 Zr _ zz6 zi hZ6.2.2.2 (isX_off S6 hZ6 (by omega))
    have hTi7 : (gT z7 into).1 = 4 := by rw [S7.2.2.2.1]
    refine w_nx (pc' := 264) rfl ?_
    refine w_nx (pc' := 266) rfl ?_
    obtain ⟨o, z8, e8, b1, b2, i8⟩ := x_or (d := d + 6) i7 zz7 (Ne.symm zi)
    subst b1
    refine w_cal (pc' := 269) rfl (a_cv0 rfl rfl rfl (hTi7) rfl rfl) (e8) ?_
    obtain ⟨S8, k8⟩ := st_row S7 b2 S7.2.2.2 (.inr rfl)
    have hD8 := S8.1.2.1
    refine w_nx (pc' := 270) rfl ?_
    refine w_nx (pc' := 271) rfl ?_
    refine w_getI rfl rfl (hD8) rfl rfl ?_
    refine w_top (S8.1.2.2.2.2.1) ?_
    refine w_nx (pc' := 275) (S' := .int (nI 1) :: _) rfl ?_
    refine w_nx (pc' := 276) rfl ?_
    refine w_top (pk_sub (by omega)) ?_
    refine w_put rfl rfl (hD8) (by omega) rfl rfl rfl ?_
    refine w_nx (pc' := 337) rfl ?_
    have fr0 : frI (fun b => b = 104) z8 (sI z8 104 8 (nI (n + 2 + 1 - 1))) := frI_sI rfl
    refine tail _ rs7 ee7 c7 _ _ ⟨pl_lent S8.1 (by have := S8.1.2.2.2.2.2.1; omega), pR_trans S8.2.1 pR_lent, S8.2.2.1, rowOk_fr S8.2.2.2 fr0⟩ (isRow_fr i8 fr0 (fun g => ?_) (fun g => ?_)) (fun x => ?_)
    · have := (isRow_ok i8).1; rw [g] at this; rw [this] at hD8; cases hD8
    · have := (isRow_ok i8).2.2.1; rw [g] at this; rw [this] at hD8; cases hD8
    · rw [v]
      exact Iff.rfl
  · -- BOTH, EITHER
    obtain ⟨v, v1, v2, v3, v4⟩ := h
    have step : ∀ {Q : aRes → aSt → Prop}, wR (aEx (d + 8)) aM_X3_ask Q 282 [some (.ref 104), some (.ref p), some (.int (nI l)), some (.ref into), some (.ref X), some (.ref Y), none] [] z2 → wR (aEx (d + 8)) aM_X3_ask Q 70 [some (.ref 104), some (.ref p), some (.int (nI l)), some (.ref into), some (.ref X), some (.ref Y), none] [] z2 := by
      intro Q hq
      rcases v with v | v
      · have v9 := v
        refine w_nx (pc' := 71) rfl ?_
        refine w_getR rfl rfl (f3) (congrArg va_rf ((f4 0).2.trans (w2.trans (congrArg some v)))) rfl ?_
        refine w_nx (pc' := 77) rfl ?_
        refine w_nx (pc' := 282) rfl ?_
        exact hq
      · have v9 := v
        refine w_nx (pc' := 71) rfl ?_
        refine w_getR rfl rfl (f3) (congrArg va_rf ((f4 0).2.trans (w2.trans (congrArg some v)))) rfl ?_
        refine w_nx (pc' := 77) rfl ?_
        refine w_nx (pc' := 282) rfl ?_
        exact hq
    refine step ?_
    refine w_nx (pc' := 283) rfl ?_
    refine w_nx (pc' := 284) rfl ?_
    refine w_getR rfl rfl (f3) (congrArg va_rf ((f4 1).2.trans v1)) rfl ?_
    refine w_nx (pc' := 288) rfl ?_
    refine w_nx (pc' := 290) rfl ?_
    obtain ⟨o, z3, e3, b1⟩ := hask' (vR z0 p 1) l X (n + 2) rs2 ee2 c2 z2 v2 ⟨a2, hl, S2.1, hX.2.2.1, hX.2.2.2, isX_off S2 hX (by omega)⟩ (by omega)
    obtain ⟨b2, rs3, ee3, c3, S3, x3, k3⟩ := st_call S2 (by omega) (by omega) hX.2.2.1 (.inl ⟨n, Nat.le_refl n, hX.1, hX.2.1⟩) o2.1 (fun i h1 h2 => o2.2 i (by omega) h2) b1
    subst b2
    refine w_cal (pc' := 293) rfl (rfl) (e3) ?_
    have hX3 := isX_to S3 hX k3.2.1 k3.2.2
    have hY3 := isX_to S3 hY k3.2.1 k3.2.2
    have a3 := st_agr S3 hA hp hr
    have o3 := st_off S3 hlv hoff
    obtain ⟨f5, f6⟩ := prt_agr hS w1 a3
    refine w_nx (pc' := 294) rfl ?_
    refine w_nx (pc' := 295) rfl ?_
    refine w_getR rfl rfl (f5) (congrArg va_rf ((f6 2).2.trans v3)) rfl ?_
    refine w_nx (pc' := 299) rfl ?_
    refine w_nx (pc' := 301) rfl ?_
    obtain ⟨o, z4, e4, b1⟩ := hask' (vR z0 p 2) l Y (n + 2) rs3 ee3 c3 z3 v4 ⟨a3, hl, S3.1, hY3.2.2.1, hY3.2.2.2, isX_off S3 hY3 (by omega)⟩ (by omega)
    obtain ⟨b2, rs4, ee4, c4, S4, y4, k4⟩ := st_call S3 (by omega) (by omega) hY3.2.2.1 (.inl ⟨n + 1, by omega, hY3.1, hY3.2.1⟩) o3.1 (fun i h1 h2 => o3.2 i (by omega) h2) b1
    subst b2
    refine w_cal (pc' := 304) rfl (rfl) (e4) ?_
    have x4 := k4.1 X _ x3 xy hX3.2.2.2 (isX_off S3 hX3 (by omega))
    obtain ⟨f7, f8⟩ := prt_agr hS w1 (st_agr S4 hA hp hr)
    have hTi4 : (gT z4 into).1 = 4 := by rw [S4.2.2.2.1]
    refine w_nx (pc' := 305) rfl ?_
    refine w_getR rfl rfl (f7) (congrArg va_rf ((f8 0).2.trans w2)) rfl ?_
    refine w_nx (pc' := 311) rfl ?_
    rcases v with v | v
    · refine w_an (u := some (vR z0 p 0)) (v := some 5) rfl rfl rfl (a_cmp_lt hKlt (by decide)) (fun h => absurd (congrArg some v) h) (fun _ => ?_)
      refine w_nx (pc' := 315) rfl ?_
      refine w_nx (pc' := 317) rfl ?_
      refine w_nx (pc' := 319) rfl ?_
      obtain ⟨o, z5, e5, b1, b2, i5⟩ := x_and (d := d + 6) S4.2.2.2 x4 y4 (Ne.symm xi) (Ne.symm yi)
      subst b1
      refine w_cal (pc' := 322) rfl (a_cv0 rfl rfl rfl (hTi4) rfl rfl) (e5) ?_
      refine w_nx (pc' := 337) rfl ?_
      refine tail z5 rs4 ee4 c4 _ _ (st_row S4 b2 S4.2.2.2 (.inr rfl)).1 i5 (fun x => ?_)
      rw [v]
      exact Iff.rfl
    · refine w_an (u := some (vR z0 p 0)) (v := some 5) rfl rfl rfl (a_cmp_lt hKlt (by decide)) (fun _ => ?_) (fun h => by rw [v] at h; cases h)
      refine w_nx (pc' := 326) rfl ?_
      refine w_nx (pc' := 328) rfl ?_
      obtain ⟨o, z5, e5, b1, b2, i5⟩ := x_copy (d := d + 7) S4.2.2.2 x4 (Ne.symm xi)
      subst b1
      refine w_cal (pc' := 331) rfl (a_cv0 rfl rfl rfl (hTi4) rfl rfl) (e5) ?_
      obtain ⟨S5, k5⟩ := st_row S4 b2 S4.2.2.2 (.inr rfl)
      have hY4 := isX_to S4 hY3 k4.2.1 k4.2.2
      have y5 := k5.1 Y _ y4 yi hY4.2.2.2 (isX_off S4 hY4 (by omega))
      have hTi5 : (gT z5 into).1 = 4 := by rw [S5.2.2.2.1]
      refine w_nx (pc' := 332) rfl ?_
      refine w_nx (pc' := 334) rfl ?_
      obtain ⟨o, z6, e6, b1, b2, i6⟩ := x_or (d := d + 6) i5 y5 (Ne.symm yi)
      subst b1
      refine w_cal (pc' := 337) rfl (a_cv0 rfl rfl rfl (hTi5) rfl rfl) (e6) ?_
      refine tail z6 rs4 ee4 c4 _ _ (st_row S5 b2 S5.2.2.2 (.inr rfl)).1 i6 (fun x => ?_)
      rw [v]
      exact Iff.rfl
