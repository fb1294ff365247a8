/-! Duties.take -/
set_option maxRecDepth 100000
/-- the rows asked, as made -/
def askT (z : aSt) : Prop := gR z 104 6 = some 110 ∧ gT z 110 = (46, 72) ∧ (∀ i, i < 72 → gR z 110 i = some (112 + 2 * i)) ∧ ∀ i, i < 72 → rowOk z (112 + 2 * i)
/-- what obligation j / 8 asks by letter j % 8 -/
def oblU (z0 : aSt) (m j x : Nat) : Prop := match gR z0 105 (j / 8) with
  | some q => askP z0 m q (j % 8) x
  | none => plcP z0 (askP z0 m) (j / 8) (j % 8) x
def rowsX : Nat → Prop := fun b => 112 ≤ b ∧ b < 256
theorem pl_frW {ps : List Nat} {z z' : aSt} {n : Nat} {rs : List Nat} {e c : Nat} (hT : dutT z) (h : pl z n rs e c) (f : frW ps z z') (hps : ∀ b, b ∈ ps → okQ z b) : pl z' n rs e c := by
  obtain ⟨h1, h2, h3, h4, h5, h6, h7, h8, h9⟩ := h
  have np : ∀ b, gT z b ≠ (10, 0) → b ∉ ps := fun b g q => g (hps b q).1
  have he : ¬ ((104 ≤ e ∧ e ≤ 109) ∨ e ∈ ps) := by
    rintro (g | g)
    · have ht := h1.2.2.2.2.2.1
      obtain ⟨d1, d2, d3, d4, d5, d6, d7, d8, d9, d10, d11, d12⟩ := hT
      have : e = 104 ∨ e = 105 ∨ e = 106 ∨ e = 107 ∨ e = 108 ∨ e = 109 := by omega
      rcases this with g | g | g | g | g | g <;> rw [g] at ht
      · rw [d1] at ht; cases ht
      · rw [d8] at ht; cases ht
      · rw [d9] at ht; cases ht
      · rw [d10] at ht; cases ht
      · rw [d11] at ht; cases ht
      · rw [d12] at ht; cases ht
    · exact np e (by rw [h1.2.2.2.2.2.1]; intro q; cases q) g
  refine ⟨isAL_fr h1 f.1 (fun g => g.elim (by omega) (np 111 (by rw [h1.1]; decide))) he, by rw [f.1.2.1 104 h3]; exact h2, lv_fr f.1 h3, (f.2.1 7).trans h4, (f.2.2.1 8 (by decide)).trans h5, h6, h7, h8, fun r hr => ?_⟩
  obtain ⟨k1, k2, k3⟩ := h9 r hr
  exact ⟨rowOk_fr2 k1 f.1 (.inl fun g => g.elim (by omega) (np r (by rw [k1.1]; decide))) k3, k2, lv_fr f.1 k3⟩
theorem rows_tag {z : aSt} (h : ∀ i, i < 72 → rowOk z (112 + 2 * i)) {b : Nat} (hb : rowsX b) : (gT z b).1 = 4 ∨ gT z b = (40, 128) := by
  obtain ⟨h1, h2⟩ := hb
  have r := h ((b - 112) / 2) (by omega)
  rcases Nat.mod_two_eq_zero_or_one b with g | g
  · have e : 112 + 2 * ((b - 112) / 2) = b := by omega
    rw [e] at r
    exact .inl (by rw [r.1])
  · have e : 112 + 2 * ((b - 112) / 2) + 1 = b := by omega
    have := r.2.2.1
    rw [e] at this
    exact .inr this
/-- a state of the loop: rows below j are made -/
def tkS (z0 : aSt) (m : Nat) (rs : List Nat) (e c j : Nat) (z : aSt) (rs1 : List Nat) (e1 c1 : Nat) : Prop := pl z 0 rs1 e1 c1 ∧ pR 0 rowsX z0 rs e c z rs1 e1 c1 ∧ rs1.length ≤ max rs.length (5 * m + 2) ∧ (∀ i, i < 72 → rowOk z (112 + 2 * i)) ∧ ∀ i, i < j → isRow z (112 + 2 * i) (oblU z0 m i)
theorem tk_step {z0 z z2 : aSt} {m j : Nat} {rs rs1 : List Nat} {e c e1 c1 : Nat} {o : aRes} {B : Nat} (hj : j < 72) (h0 : ∀ b, b < 468 → lv z0 b) (hB : B ≤ 5 * m + 2) (h : tkS z0 m rs e c j z rs1 e1 c1) (q : pQ 0 rs1 e1 c1 z (112 + 2 * j) B (oblU z0 m j) o z2) : o = .inl none ∧ ∃ (rs2 : List Nat) (e2 c2 : Nat), tkS z0 m rs e c (j + 1) z2 rs2 e2 c2 := by
  obtain ⟨h1, h2, h3, h4, h5⟩ := h
  obtain ⟨q1, rs2, e2, c2, q2, q3, q4, q5⟩ := q
  have lvz : ∀ b, b < 468 → lv z b := fun b hb => lv_pR h2 (h0 b hb)
  refine ⟨q1, rs2, e2, c2, q2, pR_trans h2 (pR_mono q3 (Nat.le_refl 0) fun b g => .inl ?_), by omega, fun i hi => ?_, fun i hi => ?_⟩
  · rcases g with g | g
    · exact ⟨by omega, by omega⟩
    · exact ⟨by omega, by omega⟩
  · by_cases c : i = j
    · rw [c]; exact isRow_ok q5
    · refine rowOk_fr2 (h4 i hi) q3.1 (.inl ?_) (lvz _ (by omega))
      rintro (g | (g | g | ⟨t, g1, g2, g3⟩) | g)
      · exact rF_104 (h4 i hi) h1.2.1 (.inl g.symm)
      · have a := (h4 i hi).1; rw [g, h1.1.1] at a; cases a
      · have a := (h4 i hi).1; rw [g, h1.1.2.2.2.2.2.1] at a; cases a
      · have := (h1.2.2.2.2.2.2.2.2 _ (get_mem g2)).2.1
        rcases g3 with g3 | g3 <;> omega
      · rcases g with g | g <;> omega
  · by_cases c : i = j
    · rw [c]; exact q5
    · exact pR_keep h1 q3 (h5 i (by omega)) (lvz _ (by omega)) (rF_dis (h4 i (by omega)) (h4 j hj) (by omega)) (pl_off h1 (by omega))
theorem x_take1 {z0 : aSt} {m N d : Nat} {rs : List Nat} {e c : Nat} (hS : dutS z0) (hT0 : dutT z0) (hK : askT z0) (hm : m ≤ 150) (hN : gI z0 104 0 = nI N) (hN9 : N ≤ 9) (hob : ∀ i, i < N → obl z0 m i) (hp0 : pl z0 0 rs e c) {w : Nat} : ∀ (q v : Nat) (z : aSt) (rs1 : List Nat) (e1 c1 : Nat) (v3 v4 : Option Value), v + q = N → tkS z0 m rs e c (8 * v) z rs1 e1 c1 →
    wR (aEx (2 * m + 8)) aM_X3_take (fun o z' => o = .inl none ∧ ∃ (rs' : List Nat) (e' c' : Nat), tkS z0 m rs e c (8 * N) z' rs' e' c') 18 [some (.ref 104), some (.ref w), some (.int (nI v)), v3, v4] [] z := by
  have hlv : ∀ b, b < 468 → lv z0 b := fun b hb => by have := hS.2.1; unfold lv; omega
  have facts : ∀ (j : Nat) (z : aSt) (rs1 : List Nat) (e1 c1 : Nat), tkS z0 m rs e c j z rs1 e1 c1 → agr z0 z := fun j z rs1 e1 c1 h => agr_pR (agr_refl z0) hp0 h.2.1 (fun b _ g => rows_tag hK.2.2.2 g)
  intro q
  induction q with
  | zero =>
    intro v z rs1 e1 c1 v3 v4 hv h
    have a := facts _ z rs1 e1 c1 h
    have dA := dut_agr hS a
    have hm2 : gI z 104 0 = nI N := by
      rw [dA.2.2.2.2.2.2.2.2.2.2.1, ← nI_vI, hN]
    have hD := dA.1
    refine w_nx (pc' := 19) rfl ?_
    refine w_nx (pc' := 20) rfl ?_
    refine w_getI rfl rfl (hD) rfl rfl ?_
    refine w_top (hm2) ?_
    refine w_ncge rfl rfl rfl (rfl) (rfl) (by omega) (by omega) (fun hb => ?_) (fun hb => ?_)
    · have e' : v = N := by omega
      subst e'
      exact w_fin rfl (⟨rfl, rs1, e1, c1, h⟩)
    · omega
  | succ q ih =>
    intro v z rs1 e1 c1 v3 v4 hv h
    have hob1 := hob v (by omega)
    have inner : ∀ (q2 x : Nat) (z : aSt) (rs1 : List Nat) (e1 c1 : Nat) (v4 : Option Value), x + q2 = 8 → tkS z0 m rs e c (8 * v + x) z rs1 e1 c1 →
        wR (aEx (2 * m + 8)) aM_X3_take (fun o z' => o = .inl none ∧ ∃ (rs' : List Nat) (e' c' : Nat), tkS z0 m rs e c (8 * N) z' rs' e' c') 28 [some (.ref 104), some (.ref w), some (.int (nI v)), some (.int (nI x)), v4] [] z := by
      intro q2
      induction q2 with
      | zero =>
        intro x z rs1 e1 c1 v4 hx h
        refine w_nx (pc' := 29) rfl ?_
        refine w_nx (pc' := 31) (S' := .int (nI 8) :: _) rfl ?_
        refine w_ncge rfl rfl rfl (rfl) (rfl) (by omega) (by omega) (fun hb => ?_) (fun hb => ?_)
        · refine w_iinc rfl rfl (nI_1 _) rfl rfl ?_
          refine w_nx (pc' := 18) rfl ?_
          refine ih (v + 1) z rs1 e1 c1 _ _ (by omega) ?_
          rw [show 8 * (v + 1) = 8 * v + x by omega]
          exact h
        · omega
      | succ q2 ih2 =>
        intro x z rs1 e1 c1 v4 hx h
        have a := facts _ z rs1 e1 c1 h
        have hD := (dut_agr hS a).1
        have g104 : ∀ k, k ≠ 8 → gR z 104 k = gR z0 104 k := fun k hk => (a.2.2 104 (hlv _ (by decide)) (by rw [hT0.1]; decide) (by rw [hT0.1]; decide) (by rw [hT0.1]; decide) (by rw [hT0.1]; decide) k (fun _ => hk)).2
        have t10 : gT z 110 = (46, 72) := (a.2.1 110 (hlv _ (by decide))).trans hK.2.1
        have r10 : gR z 110 (8 * v + x) = some (112 + 2 * (8 * v + x)) := (a.2.2 110 (hlv _ (by decide)) (by rw [hK.2.1]; decide) (by rw [hK.2.1]; decide) (by rw [hK.2.1]; decide) (by rw [hK.2.1]; decide) _ (fun h => absurd h (by decide))).2.trans (hK.2.2.1 _ (by omega))
        have h8 : gT z0 105 = (45, 9) := hT0.2.2.2.2.2.2.2.1
        have t5 : gT z 105 = (45, 9) := (a.2.1 105 (hlv _ (by decide))).trans h8
        have r5 : gR z 105 v = gR z0 105 v := (a.2.2 105 (hlv _ (by decide)) (by rw [h8]; decide) (by rw [h8]; decide) (by rw [h8]; decide) (by rw [h8]; decide) v (fun h => absurd h (by decide))).2
        have r6 : gR z 104 6 = some 110 := (g104 6 (by decide)).trans hK.1
        have r1 : gR z 104 1 = some 105 := (g104 1 (by decide)).trans hT0.2.2.1
        have hdiv : (8 * v + x) / 8 = v := by omega
        have hmod : (8 * v + x) % 8 = x := by omega
        have hj : 8 * v + x < 72 := by omega
        have hP : pP z0 0 rs1 e1 c1 z (112 + 2 * (8 * v + x)) x := ⟨a, by omega, h.1, h.2.2.2.1 _ hj, lv_pR h.2.1 (hlv _ (by omega)), pl_off h.1 (by omega)⟩
        refine w_nx (pc' := 29) rfl ?_
        refine w_nx (pc' := 31) (S' := .int (nI 8) :: _) rfl ?_
        refine w_ncge rfl rfl rfl (rfl) (rfl) (by omega) (by omega) (fun hb => ?_) (fun hb => ?_)
        · omega
        · refine w_nx (pc' := 35) rfl ?_
          refine w_getR rfl rfl (hD) (congrArg va_rf (r6)) rfl ?_
          refine w_nx (pc' := 40) (S' := .int (nI 8) :: _) rfl ?_
          refine w_nx (pc' := 41) rfl ?_
          refine w_nx (pc' := 42) rfl ?_
          refine w_top (pk_mul _ _) ?_
          refine w_nx (pc' := 43) rfl ?_
          refine w_nx (pc' := 44) rfl ?_
          refine w_top (nI_add _ _) ?_
          refine w_ald rfl (fun _ _ _ _ _ _ => rfl) (t10) rfl (rfl) (by omega) (by decide) (congrArg va_rf (r10)) rfl ?_
          refine w_nx (pc' := 47) rfl ?_
          refine w_nx (pc' := 48) rfl ?_
          refine w_getR rfl rfl (hD) (congrArg va_rf (r1)) rfl ?_
          refine w_nx (pc' := 52) rfl ?_
          refine w_ald rfl (fun _ _ _ _ _ _ => rfl) (t5) rfl (rfl) (by omega) (by decide) (congrArg va_rf (r5)) rfl ?_
          rcases hob1 with ⟨q, o1, o2, o3⟩ | ⟨o1, o2⟩
          · refine w_inon (u := gR z0 105 v) rfl rfl rfl (fun _ _ => ?_) (fun g => by rw [o1] at g; cases g)
            refine w_nx (pc' := 68) rfl ?_
            refine w_nx (pc' := 69) rfl ?_
            refine w_getR rfl rfl (hD) (congrArg va_rf (r1)) rfl ?_
            refine w_nx (pc' := 73) rfl ?_
            refine w_ald rfl (fun _ _ _ _ _ _ => rfl) (t5) rfl (rfl) (by omega) (by decide) (congrArg va_rf (r5.trans o1)) rfl ?_
            refine w_nx (pc' := 75) rfl ?_
            refine w_nx (pc' := 77) rfl ?_
            obtain ⟨o, z2, e2, b1⟩ := (x_ask hS m q x (112 + 2 * (8 * v + x)) 0 rs1 e1 c1 z o3 hP (by omega)).up
            have hU : oblU z0 m (8 * v + x) = askP z0 m q x := by funext y; unfold oblU; rw [hdiv, hmod, o1]
            rw [← hU] at b1
            obtain ⟨b2, rs2, ee2, c2, h2⟩ := tk_step hj hlv (by omega) h b1
            subst b2
            refine w_cal (pc' := 80) rfl (rfl) (e2) ?_
            refine w_iinc rfl rfl (nI_1 _) rfl rfl ?_
            refine w_nx (pc' := 28) rfl ?_
            exact ih2 (x + 1) z2 rs2 ee2 c2 _ (by omega) h2
          · refine w_inon (u := gR z0 105 v) rfl rfl rfl (fun b g => by rw [o1] at g; cases g) (fun _ => ?_)
            refine w_nx (pc' := 57) rfl ?_
            refine w_nx (pc' := 58) rfl ?_
            refine w_nx (pc' := 59) rfl ?_
            refine w_nx (pc' := 61) rfl ?_
            obtain ⟨o, z2, e2, b1⟩ := x_place (d := 2 * m) hS (x_ask hS m) (k := v) (by omega) o2 hP (by omega)
            have hU : oblU z0 m (8 * v + x) = plcP z0 (askP z0 m) v x := by funext y; unfold oblU; rw [hdiv, hmod, o1]
            rw [← hU] at b1
            obtain ⟨b2, rs2, ee2, c2, h2⟩ := tk_step hj hlv (by omega) h b1
            subst b2
            refine w_cal (pc' := 64) rfl (rfl) (e2) ?_
            refine w_nx (pc' := 80) rfl ?_
            refine w_iinc rfl rfl (nI_1 _) rfl rfl ?_
            refine w_nx (pc' := 28) rfl ?_
            exact ih2 (x + 1) z2 rs2 ee2 c2 _ (by omega) h2
    have a := facts _ z rs1 e1 c1 h
    have dA := dut_agr hS a
    have hm2 : gI z 104 0 = nI N := by
      rw [dA.2.2.2.2.2.2.2.2.2.2.1, ← nI_vI, hN]
    have hD := dA.1
    refine w_nx (pc' := 19) rfl ?_
    refine w_nx (pc' := 20) rfl ?_
    refine w_getI rfl rfl (hD) rfl rfl ?_
    refine w_top (hm2) ?_
    refine w_ncge rfl rfl rfl (rfl) (rfl) (by omega) (by omega) (fun hb => ?_) (fun hb => ?_)
    · omega
    · refine w_nx (pc' := 27) (S' := .int (nI 0) :: _) rfl ?_
      refine w_nx (pc' := 28) rfl ?_
      exact inner 8 0 z rs1 e1 c1 _ (by omega) h
