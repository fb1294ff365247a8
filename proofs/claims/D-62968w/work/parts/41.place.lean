/-! What a place asks -/
set_option maxRecDepth 100000
/-- a Part -/
def okP (z0 : aSt) (p : Nat) : Prop := gT z0 p = (10, 0) ∧ lv z0 p
/-- what place k asks by letter l: is x enough? A: of properties -/
def plcP (z0 : aSt) (A : Nat → Nat → Nat → Prop) (k l x : Nat) : Prop := (vI z0 106 k).testBit l = true → sb (vI z0 107 k) x ∧ (vI z0 108 k = 1 → if vR z0 (vR z0 109 k) 0 = 4 then sb (2 ^ vI z0 (vR z0 (vR z0 109 k) 2) 6) x else A (vR z0 (vR z0 109 k) 2) l x)
/-- place k is well made. W: of properties -/
def wfK (z0 : aSt) (W : Nat → Prop) (k : Nat) : Prop := vI z0 106 k < 256 ∧ vI z0 107 k < 512 ∧ vI z0 108 k ≤ 1 ∧ (vI z0 108 k = 1 → gR z0 109 k = some (vR z0 109 k) ∧ okP z0 (vR z0 109 k) ∧ gR z0 (vR z0 109 k) 0 = some (vR z0 (vR z0 109 k) 0) ∧ (vR z0 (vR z0 109 k) 0 = 3 ∨ vR z0 (vR z0 109 k) 0 = 4) ∧ gR z0 (vR z0 109 k) 2 = some (vR z0 (vR z0 109 k) 2) ∧ okP z0 (vR z0 (vR z0 109 k) 2) ∧ (vR z0 (vR z0 109 k) 0 = 4 → vI z0 (vR z0 (vR z0 109 k) 2) 6 < 9) ∧ (vR z0 (vR z0 109 k) 0 = 3 → W (vR z0 (vR z0 109 k) 2)))
/-- the Duties, as made -/
def dutS (z0 : aSt) : Prop := gT z0 104 = (3, 0) ∧ 368 ≤ gZ z0 ∧ gR z0 104 2 = some 106 ∧ gR z0 104 3 = some 107 ∧ gR z0 104 4 = some 108 ∧ gR z0 104 5 = some 109 ∧ gT z0 106 = (40, 9) ∧ gT z0 107 = (40, 9) ∧ gT z0 108 = (42, 9) ∧ gT z0 109 = (45, 9) ∧ vI z0 104 0 ≤ 9
/-- the same, at work -/
def dutA (z0 z : aSt) : Prop := (gT z 104).1 = 3 ∧ 368 ≤ gZ z ∧ gR z 104 2 = some 106 ∧ gR z 104 3 = some 107 ∧ gR z 104 4 = some 108 ∧ gR z 104 5 = some 109 ∧ gT z 106 = (40, 9) ∧ gT z 107 = (40, 9) ∧ gT z 108 = (42, 9) ∧ gT z 109 = (45, 9) ∧ gI z 104 0 = nI (vI z0 104 0) ∧ (∀ k, gI z 106 k = nI (vI z0 106 k)) ∧ (∀ k, gI z 107 k = nI (vI z0 107 k)) ∧ (∀ k, gI z 108 k = nI (vI z0 108 k)) ∧ ∀ k, gR z 109 k = gR z0 109 k
theorem dut_agr {z0 z : aSt} (h : dutS z0) (a : agr z0 z) : dutA z0 z := by
  obtain ⟨h1, h2, h3, h4, h5, h6, h7, h8, h9, h10, h11⟩ := h
  have lvs : ∀ b, b < 468 → lv z0 b := fun b hb => by unfold lv; omega
  have g104 : ∀ k, k ≠ 8 → gI z 104 k = gI z0 104 k ∧ gR z 104 k = gR z0 104 k := fun k hk => a.2.2 104 (lvs _ (by decide)) (by rw [h1]; decide) (by rw [h1]; decide) (by rw [h1]; decide) (by rw [h1]; decide) k (fun _ => hk)
  have g106 := fun k => a.2.2 106 (lvs _ (by decide)) (by rw [h7]; decide) (by rw [h7]; decide) (by rw [h7]; decide) (by rw [h7]; decide) k (fun h => absurd h (by decide))
  have g107 := fun k => a.2.2 107 (lvs _ (by decide)) (by rw [h8]; decide) (by rw [h8]; decide) (by rw [h8]; decide) (by rw [h8]; decide) k (fun h => absurd h (by decide))
  have g108 := fun k => a.2.2 108 (lvs _ (by decide)) (by rw [h9]; decide) (by rw [h9]; decide) (by rw [h9]; decide) (by rw [h9]; decide) k (fun h => absurd h (by decide))
  have g109 := fun k => a.2.2 109 (lvs _ (by decide)) (by rw [h10]; decide) (by rw [h10]; decide) (by rw [h10]; decide) (by rw [h10]; decide) k (fun h => absurd h (by decide))
  have t := a.2.1
  refine ⟨by rw [t _ (lvs 104 (by decide)), h1], Nat.le_trans h2 a.1, (g104 2 (by decide)).2.trans h3, (g104 3 (by decide)).2.trans h4, (g104 4 (by decide)).2.trans h5, (g104 5 (by decide)).2.trans h6, (t _ (lvs 106 (by decide))).trans h7, (t _ (lvs 107 (by decide))).trans h8, (t _ (lvs 108 (by decide))).trans h9, (t _ (lvs 109 (by decide))).trans h10, ?_, fun k => ?_, fun k => ?_, fun k => ?_, fun k => (g109 k).2⟩
  · rw [(g104 0 (by decide)).1, nI_vI]
  · rw [(g106 k).1, nI_vI]
  · rw [(g107 k).1, nI_vI]
  · rw [(g108 k).1, nI_vI]
theorem prt_agr {z0 z : aSt} {p : Nat} (hS : dutS z0) (h : okP z0 p) (a : agr z0 z) : (gT z p).1 = 10 ∧ ∀ k, gI z p k = nI (vI z0 p k) ∧ gR z p k = gR z0 p k := by
  have hp : p ≠ 104 := fun e => by
    have h1 := h.1
    rw [e, hS.1] at h1
    cases h1
  refine ⟨by rw [a.2.1 p h.2, h.1], fun k => ?_⟩
  have g := a.2.2 p h.2 (by rw [h.1]; decide) (by rw [h.1]; decide) (by rw [h.1]; decide) (by rw [h.1]; decide) k (fun e => absurd e hp)
  exact ⟨by rw [g.1, nI_vI], g.2⟩
/-- what such work leaves: a row made, the pool as lent as before -/
def pQ (n : Nat) (rs : List Nat) (e c : Nat) (z : aSt) (into B : Nat) (U : Nat → Prop) : aRes → aSt → Prop := fun o z' => o = .inl none ∧ ∃ (rs' : List Nat) (e' c' : Nat), pl z' n rs' e' c' ∧ pR n (rF into) z rs e c z' rs' e' c' ∧ rs'.length ≤ max rs.length B ∧ isRow z' into U
/-- what it needs -/
def pP (z0 : aSt) (n : Nat) (rs : List Nat) (e c : Nat) (z : aSt) (into l : Nat) : Prop := agr z0 z ∧ l < 8 ∧ pl z n rs e c ∧ rowOk z into ∧ lv z (into + 1) ∧ ∀ i, n ≤ i → i < rs.length → rs.getD i 0 ≠ into
def askQ (z0 : aSt) (A : Nat → Nat → Nat → Prop) (W : Nat → Prop) (B d : Nat) : Prop := ∀ (p l into n : Nat) (rs : List Nat) (e c : Nat) (z : aSt), W p → pP z0 n rs e c z into l → n + B ≤ 900 → aW d 62 [.ref 104, .ref p, .int (nI l), .ref into] z (pQ n rs e c z into (n + B) (A p l))
theorem rF_tag {z : aSt} {r b : Nat} (h : rowOk z r) (hb : rF r b) : (gT z b).1 = 4 ∨ gT z b = (40, 128) := by
  rcases hb with g | g
  · rw [g, h.1]; exact .inl rfl
  · rw [g]; exact .inr h.2.2.1
theorem two_lt {j : Nat} (h : j < 9) : 2 ^ j < 512 := Nat.pow_lt_pow_right (a := 2) (m := j) (n := 9) (by decide) h
theorem nI_pow {j : Nat} (h : j < 9) : nI 1 <<< (nI j &&& 31) = nI (2 ^ j) := by
  have h9 : 2 ^ j < 512 := two_lt h
  rw [nI_shl (by omega) (by omega), Nat.one_mul]
theorem lv_pR {n : Nat} {X : Nat → Prop} {z z1 : aSt} {rs rs1 : List Nat} {e c e1 c1 b : Nat} (f : pR n X z rs e c z1 rs1 e1 c1) (h : lv z b) : lv z1 b := lv_fr f.1 h
theorem len_pR {n : Nat} {X : Nat → Prop} {z z1 : aSt} {rs rs1 : List Nat} {e c e1 c1 : Nat} (f : pR n X z rs e c z1 rs1 e1 c1) : rs.length ≤ rs1.length ∧ ∀ i, i < rs.length → rs1.getD i 0 = rs.getD i 0 := by
  obtain ⟨t, h, _⟩ := f.2.2.1
  rw [h, List.length_append]
  exact ⟨Nat.le_add_right _ _, fun i hi => gd_left hi⟩
theorem x_place {z0 : aSt} {A : Nat → Nat → Nat → Prop} {W : Nat → Prop} {B d : Nat} (hS : dutS z0) (hask : askQ z0 A W B (d + 7)) {k l into n : Nat} {rs : List Nat} {e c : Nat} {z : aSt} (hk : k < 9) (hw : wfK z0 W k) (hP : pP z0 n rs e c z into l) (hB : n + 2 + B ≤ 900) :
    aW (d + 8) 60 [.ref 104, .int (nI k), .int (nI l), .ref into] z (pQ n rs e c z into (n + 2 + B) (plcP z0 A k l)) := by
  obtain ⟨hA, hl, hp, hr, hlv, hoff⟩ := hP
  obtain ⟨w1, w2, w3, w4⟩ := hw
  have hTi : (gT z into).1 = 4 := by rw [hr.1]
  refine w_of (k := 60) (m := aM_X3_place) rfl rfl ?_
  refine w_nx (pc' := 1) rfl ?_
  obtain ⟨o, z1, e1, q1, q2, q3⟩ := x_nothing (d := d + 6) hr
  subst q1
  refine w_cal (pc' := 4) rfl (a_cv0 rfl rfl rfl (hTi) rfl rfl) (e1) ?_
  have r1 : pR n (rF into) z rs e c z1 rs e c := pR_row q2 (.inr fun b h => h) (rF_104 hr hp.2.1)
  have p1 := pl_row hp q2 hr
  have a1 := agr_pR hA hp r1 (fun b _ h => rF_tag hr h)
  obtain ⟨d1, d2, d3, d4, d5, d6, d7, d8, d9, d10, d11, d12, d13, d14, d15⟩ := dut_agr hS a1
  refine w_nx (pc' := 5) rfl ?_
  refine w_getR rfl rfl (d1) (congrArg va_rf (d3)) rfl ?_
  refine w_nx (pc' := 9) rfl ?_
  refine w_ald rfl (fun _ _ _ _ _ _ => rfl) (d7) rfl (rfl) (by omega) (by decide) rfl rfl ?_
  refine w_top (d12 k) ?_
  refine w_nx (pc' := 11) rfl ?_
  refine w_nx (pc' := 12) rfl ?_
  refine w_nx (pc' := 13) (S' := .int (nI 1) :: _) rfl ?_
  refine w_nx (pc' := 14) rfl ?_
  refine w_top (nI_bit (by omega) (by omega)) ?_
  by_cases hb : (vI z0 106 k).testBit l = true
  · rw [if_pos hb]
    refine w_ifne rfl rfl rfl (fun _ => ?_) (fun h => absurd (show ¬ nI 1 = 0 by decide) h)
    refine w_nx (pc' := 19) rfl ?_
    refine w_nx (pc' := 20) rfl ?_
    refine w_getR rfl rfl (d1) (congrArg va_rf (d4)) rfl ?_
    refine w_nx (pc' := 24) rfl ?_
    refine w_ald rfl (fun _ _ _ _ _ _ => rfl) (d8) rfl (rfl) (by omega) (by decide) rfl rfl ?_
    refine w_top (d13 k) ?_
    have hr1 := isRow_ok q3
    have hTi1 : (gT z1 into).1 = 4 := by rw [hr1.1]
    obtain ⟨o, z2, e2, s1, s2, s3⟩ := x_one (d := d + 6) hr1 w2
    subst s1
    refine w_cal (pc' := 28) rfl (a_cv0 rfl rfl rfl (hTi1) rfl rfl) (e2) ?_
    have r2 : pR n (rF into) z rs e c z2 rs e c := pR_trans r1 (pR_row s2 (.inr fun b h => h) (rF_104 hr1 p1.2.1))
    have p2 := pl_row p1 s2 hr1
    have a2 := agr_pR hA hp r2 (fun b _ h => rF_tag hr h)
    obtain ⟨d1, d2, d3, d4, d5, d6, d7, d8, d9, d10, d11, d12, d13, d14, d15⟩ := dut_agr hS a2
    refine w_nx (pc' := 29) rfl ?_
    refine w_getR rfl rfl (d1) (congrArg va_rf (d5)) rfl ?_
    refine w_nx (pc' := 33) rfl ?_
    refine w_ald rfl (fun _ _ _ _ _ _ => rfl) (d9) rfl (rfl) (by omega) (by decide) rfl rfl ?_
    refine w_top (d14 k) ?_
    by_cases he : vI z0 108 k = 1
    · obtain ⟨v1, v2, v3, v4, v5, v6, v7, v8⟩ := w4 he
      rw [he]
      refine w_ifne rfl rfl rfl (fun _ => ?_) (fun h => absurd (show ¬ nI 1 = 0 by decide) h)
      refine w_nx (pc' := 39) rfl ?_
      refine w_getR rfl rfl (d1) (congrArg va_rf (d6)) rfl ?_
      refine w_nx (pc' := 43) rfl ?_
      refine w_ald rfl (fun _ _ _ _ _ _ => rfl) (d10) rfl (rfl) (by omega) (by decide) (congrArg va_rf ((d15 k).trans v1)) rfl ?_
      refine w_nx (pc' := 46) rfl ?_
      refine w_nx (pc' := 47) rfl ?_
      obtain ⟨o, z3, e3, rs3, ee3, c3, t1, t2, t3, t4⟩ := x_lendR (d := d) (fun _ => False) p2 (by omega) d2
      subst t1
      refine w_cal (pc' := 50) rfl (a_cv0 rfl rfl rfl (d1) rfl rfl) (e3) ?_
      have hlv2 := lv_pR r2 hlv
      have i3 := pR_keep p2 t3 s3 hlv2 (fun _ _ h => h) hoff
      have r3 := pR_trans r2 (pR_mono t3 (Nat.le_refl n) (fun b h => h.elim))
      have a3 := agr_pR hA hp r3 (fun b _ h => rF_tag hr h)
      obtain ⟨d1, d2, _⟩ := dut_agr hS a3
      refine w_nx (pc' := 52) rfl ?_
      refine w_nx (pc' := 53) rfl ?_
      obtain ⟨o, z4, e4, rs4, ee4, c4, u1, u2, u3, u4⟩ := x_lendR (d := d) (fun _ => False) t2 (by omega) d2
      subst u1
      refine w_cal (pc' := 56) rfl (a_cv0 rfl rfl rfl (d1) rfl rfl) (e4) ?_
      have hlv3 := lv_pR t3 hlv2
      have hoff3 := pR_off t3 (Nat.lt_of_succ_lt hlv2) hoff
      have i4 := pR_keep t2 u3 i3 hlv3 (fun _ _ h => h) (fun i h1 h2 => hoff3 i (by omega) h2)
      have r4 := pR_trans r3 (pR_mono (m := n) u3 (by omega) (fun b h => h.elim))
      have hoff4 := pR_off u3 (Nat.lt_of_succ_lt hlv3) (fun i h1 h2 => hoff3 i (show n ≤ i by omega) h2)
      have a4 := agr_pR hA hp r4 (fun b _ h => rF_tag hr h)
      have n3 : n + 1 ≤ rs3.length := t2.2.2.2.2.2.1
      have n4 : n + 1 + 1 ≤ rs4.length := u2.2.2.2.2.2.1
      have l4 := len_pR u3
      have ex : rs4.getD n 0 = rs3.getD n 0 := l4.2 n (by omega)
      have nd := u2.2.2.2.2.2.2.2.1
      have hx4 := u2.2.2.2.2.2.2.2.2 _ (get_mem (show n < rs4.length by omega))
      have hy4 := u2.2.2.2.2.2.2.2.2 _ (get_mem (show n + 1 < rs4.length by omega))
      have xy : rs4.getD n 0 ≠ rs4.getD (n + 1) 0 := nd_get nd (by omega) (by omega) (by omega)
      have xi : rs4.getD n 0 ≠ into := by rw [ex]; exact hoff3 n (Nat.le_refl n) (by omega)
      have yi : rs4.getD (n + 1) 0 ≠ into := hoff4 (n + 1) (Nat.le_refl _) (by omega)
      rw [← ex]
      have hTx : (gT z4 (rs4.getD n 0)).1 = 4 := by rw [hx4.1.1]
      have hTy : (gT z4 (rs4.getD (n + 1) 0)).1 = 4 := by rw [hy4.1.1]
      generalize hX : rs4.getD n 0 = X at *
      generalize hY : rs4.getD (n + 1) 0 = Y at *
      refine w_nx (pc' := 58) rfl ?_
      refine w_nx (pc' := 60) rfl ?_
      refine w_nx (pc' := 61) rfl ?_
      obtain ⟨o, z5, e5, y1, y2, y3⟩ := x_copy (d := d + 6) hx4.1 i4 xi
      subst y1
      refine w_cal (pc' := 64) rfl (a_cv0 rfl rfl rfl (hTx) rfl rfl) (e5) ?_
      have r5 := pR_trans r4 (pR_row (n := n) (X := rF into) (e := ee4) (c := c4) y2 (.inl ⟨n, Nat.le_refl n, by omega, hX⟩) (rF_104 hx4.1 u2.2.1))
      have p5 := pl_row u2 y2 hx4.1
      have a5 := agr_pR hA hp r5 (fun b _ h => rF_tag hr h)
      have hTi5 := isRow_fr i4 y2 (rF_off (isRow_ok i4) hx4.1 (Ne.symm xi)).1 (rF_off (isRow_ok i4) hx4.1 (Ne.symm xi)).2
      have hY5 : rowOk z5 Y := rowOk_fr hy4.1 y2
      have hlY5 : lv z5 (Y + 1) := lv_fr y2.fr hy4.2.2
      have hlX5 : lv z5 (X + 1) := lv_fr y2.fr hx4.2.2
      have hTY5 : (gT z5 Y).1 = 4 := by rw [hY5.1]
      have len4 : rs4.length ≤ max rs.length (n + 2) := by omega
      have tail : ∀ (z6 : aSt) (rs6 : List Nat) (e6 c6 : Nat) (V : Nat → Prop), pl z6 (n + 2) rs6 e6 c6 → pR n (rF into) z rs e c z6 rs6 e6 c6 → rs6.length ≤ max rs.length (n + 2 + B) → isRow z6 X (fun x => sb (vI z0 107 k) x) → isRow z6 Y V → isRow z6 into (fun x => sb (vI z0 107 k) x) → (∀ x, plcP z0 A k l x ↔ sb (vI z0 107 k) x ∧ V x) →
          wR (aEx (d + 7)) aM_X3_place (pQ n rs e c z into (n + 2 + B) (plcP z0 A k l)) 105 [some (.ref 104), some (.int (nI k)), some (.int (nI l)), some (.ref into), some (.ref (vR z0 109 k)), some (.ref X), some (.ref Y)] [] z6 := by
        intro z6 rs6 e6 c6 V p6 r6 len6 x6 y6 i6 hV
        have hTi6 : (gT z6 into).1 = 4 := by rw [(isRow_ok i6).1]
        refine w_nx (pc' := 106) rfl ?_
        refine w_nx (pc' := 108) rfl ?_
        refine w_nx (pc' := 110) rfl ?_
        obtain ⟨o, z7, e7, b1, b2, b3⟩ := x_and (d := d + 5) (isRow_ok i6) x6 y6 (Ne.symm xi) (Ne.symm yi)
        subst b1
        refine w_cal (pc' := 113) rfl (a_cv0 rfl rfl rfl (hTi6) rfl rfl) (e7) ?_
        have p7 := pl_row p6 b2 (isRow_ok i6)
        have r7 := pR_trans r6 (pR_row (n := n) (X := rF into) (e := e6) (c := c6) b2 (.inr fun b h => h) (rF_104 (isRow_ok i6) p6.2.1))
        have hD7 := p7.2.1
        refine w_nx (pc' := 114) rfl ?_
        refine w_nx (pc' := 115) rfl ?_
        refine w_getI rfl rfl (hD7) rfl rfl ?_
        refine w_top (p7.2.2.2.2.1) ?_
        refine w_nx (pc' := 119) (S' := .int (nI 2) :: _) rfl ?_
        refine w_nx (pc' := 120) rfl ?_
        refine w_top (pk_sub (by omega)) ?_
        refine w_put rfl rfl (hD7) (by omega) rfl rfl rfl ?_
        refine w_fin rfl ⟨rfl, rs6, e6, c6, pl_lent p7 (by have := p7.2.2.2.2.2.1; omega), pR_trans r7 pR_lent, len6, isRow_iff (isRow_fr (F := fun b => b = 104) b3 (frI_sI rfl) (fun g => ?_) (fun g => ?_)) hV⟩
        · have := (isRow_ok b3).1; rw [g] at this; rw [this] at hD7; cases hD7
        · have := (isRow_ok b3).2.2.1; rw [g] at this; rw [this] at hD7; cases hD7
      obtain ⟨f1, f2⟩ := prt_agr hS v2 a5
      obtain ⟨h1, h2⟩ := prt_agr hS v6 a5
      refine w_nx (pc' := 66) rfl ?_
      refine w_getR rfl rfl (f1) (congrArg va_rf ((f2 0).2.trans v3)) rfl ?_
      refine w_nx (pc' := 72) rfl ?_
      rcases v4 with v4 | v4
      · rw [v4]
        refine w_an (u := some 3) (v := some 4) rfl rfl rfl rfl (fun _ => ?_) (fun h => by cases h)
        refine w_nx (pc' := 94) rfl ?_
        refine w_nx (pc' := 96) rfl ?_
        refine w_getR rfl rfl (f1) (congrArg va_rf ((f2 2).2.trans v5)) rfl ?_
        refine w_nx (pc' := 100) rfl ?_
        refine w_nx (pc' := 102) rfl ?_
        obtain ⟨o, z6, e6, b1, rs6, ee6, c6, b2, b3, b4, b5⟩ := hask (vR z0 (vR z0 109 k) 2) l Y (n + 2) rs4 ee4 c4 z5 (v8 v4) ⟨a5, hl, p5, hY5, hlY5, fun i g1 g2 g3 => nd_get nd g2 (show n + 1 < rs4.length by omega) (by omega) (g3.trans hY.symm)⟩ (by omega)
        subst b1
        refine w_cal (pc' := 105) rfl (rfl) (e6) ?_
        refine tail z6 rs6 ee6 c6 _ b2 (pR_trans r5 (pR_mono (m := n) b3 (by omega) fun b g => .inr (.inr (.inr ⟨n + 1, by omega, by omega, by rw [hY]; exact g⟩)))) (by omega) (pR_keep p5 b3 y3 hlX5 (rF_dis (rowOk_fr hx4.1 y2) hY5 xy) (fun i g1 g2 g3 => nd_get nd g2 (show n < rs4.length by omega) (by omega) (g3.trans hX.symm))) b5 (pR_keep p5 b3 hTi5 (lv_pR r5 hlv) (rF_dis (isRow_ok hTi5) hY5 (Ne.symm yi)) (fun i g1 g2 => hoff4 i (by omega) g2)) (fun x => ?_)
        unfold plcP
        rw [if_neg (by rw [v4]; decide)]
        exact ⟨fun h => ⟨(h hb).1, (h hb).2 he⟩, fun h _ => ⟨h.1, fun _ => h.2⟩⟩
      · rw [v4]
        refine w_an (u := some 4) (v := some 4) rfl rfl rfl rfl (fun h => absurd rfl h) (fun _ => ?_)
        have hj := v7 v4
        refine w_nx (pc' := 77) rfl ?_
        refine w_nx (pc' := 78) (S' := .int (nI 1) :: _) rfl ?_
        refine w_nx (pc' := 80) rfl ?_
        refine w_getR rfl rfl (f1) (congrArg va_rf ((f2 2).2.trans v5)) rfl ?_
        refine w_getI rfl rfl (h1) rfl rfl ?_
        refine w_top ((h2 6).1) ?_
        refine w_nx (pc' := 87) rfl ?_
        refine w_top (nI_pow hj) ?_
        obtain ⟨o, z6, e6, b1, b2, b3⟩ := x_one (d := d + 6) hY5 (two_lt hj)
        subst b1
        refine w_cal (pc' := 90) rfl (a_cv0 rfl rfl rfl (hTY5) rfl rfl) (e6) ?_
        refine w_nx (pc' := 105) rfl ?_
        refine tail z6 rs4 ee4 c4 _ (pl_row p5 b2 hY5) (pR_trans r5 (pR_row b2 (.inl ⟨n + 1, by omega, by omega, hY⟩) (rF_104 hY5 p5.2.1))) (by omega) (isRow_fr y3 b2 (rF_off (isRow_ok y3) hY5 xy).1 (rF_off (isRow_ok y3) hY5 xy).2) b3 (isRow_fr hTi5 b2 (rF_off (isRow_ok hTi5) hY5 (Ne.symm yi)).1 (rF_off (isRow_ok hTi5) hY5 (Ne.symm yi)).2) (fun x => ?_)
        unfold plcP
        rw [if_pos v4]
        exact ⟨fun h => ⟨(h hb).1, (h hb).2 he⟩, fun h _ => ⟨h.1, fun _ => h.2⟩⟩
    · have he0 : vI z0 108 k = 0 := by omega
      rw [he0]
      refine w_ifne rfl rfl rfl (fun h => absurd rfl h) (fun _ => ?_)
      exact w_fin rfl (⟨rfl, rs, e, c, p2, r2, Nat.le_max_left _ _, isRow_iff s3 fun x => ⟨fun h => (h hb).1, fun h _ => ⟨h, fun g => absurd g he⟩⟩⟩)
  · rw [if_neg hb]
    refine w_ifne rfl rfl rfl (fun h => absurd rfl h) (fun _ => ?_)
    exact w_fin rfl (⟨rfl, rs, e, c, p1, r1, Nat.le_max_left _ _, isRow_iff q3 fun x => ⟨fun _ => trivial, fun _ h => absurd h hb⟩⟩)
