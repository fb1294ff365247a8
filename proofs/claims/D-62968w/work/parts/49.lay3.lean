/-! Duties.lay: sequences, choices, copies -/
set_option maxRecDepth 100000
/-- what is claimed of lay at Part s, width and all by r -/
def layS (d : Nat) (P : aSt → Nat → Prop) (r : SQ) : Prop := ∀ (s q k : Nat) (z : aSt), P z s → dutT z → gI z 104 0 = nI k → k ≤ 9 → okQ z q → aW d 58 [.ref 104, .ref s, .ref q] z (layQ z k r q)
/-- what stays while lay goes on -/
def stays (P : aSt → Nat → Prop) : Prop := ∀ z z' s, frD z z' → P z s → P z' s
theorem frD_prt {z z' : aSt} {s : Nat} (h : okQ z s) (f : frD z z') : (gT z' s).1 = 10 ∧ ∀ k, gI z' s k = gI z s k ∧ gR z' s k = gR z s k := by
  have := h.2.2
  refine ⟨by rw [f.1.2.1 s h.2.1, h.1], fun k => ?_⟩
  have g := f.1.2.2 s h.2.1 (by omega) k
  exact ⟨g.1, g.2.2⟩
theorem layG_many {z z' : aSt} {k q : Nat} {fo ms : List Nat} (h : layG z k fo ms q z') : gI z' 104 0 = nI (k + fo.length) := h.2.1
theorem x_layT {d s q k x y : Nat} {z : aSt} {A B : SQ} {PA PB : aSt → Nat → Prop} (wA : sqW A) (wB : sqW B) (stA : stays PA) (stB : stays PB) (hA : layS (d + 2) PA A) (hB : layS (d + 2) PB B) (hs : okQ z s) (h0 : gR z s 0 = some 9) (h1 : gR z s 1 = some x) (h2 : gR z s 2 = some y) (pA : PA z x) (pB : PB z y) (hD : dutT z) (hk : gI z 104 0 = nI k) (h9 : k ≤ 9) (hq : okQ z q) : aW (d + 3) 58 [.ref 104, .ref s, .ref q] z (layQ z k (sqTh A B) q) := by
  have hTs : (gT z s).1 = 10 := by rw [hs.1]
  have hl : (sfo (sqTh A B)).length = (sfo A).length + (sfo B).length := by
    show (folL _ _ _ ++ shL _ _).length = _
    rw [List.length_append, folL_len, shL_len]
  refine w_of (k := 58) (m := aM_X3_lay) rfl rfl ?_
  refine w_nx (pc' := 1) rfl ?_
  refine w_getR rfl rfl (hTs) (congrArg va_rf (h0)) rfl ?_
  refine w_nx (pc' := 7) rfl ?_
  refine w_nx (pc' := 88) rfl ?_
  refine w_nx (pc' := 89) rfl ?_
  refine w_nx (pc' := 90) rfl ?_
  refine w_getR rfl rfl (hTs) (congrArg va_rf (h1)) rfl ?_
  refine w_nx (pc' := 94) rfl ?_
  obtain ⟨o, z1, e1, g | g⟩ := hA x q k z pA hD hk h9 hq
  · obtain ⟨G1, q1⟩ := g
    subst q1
    refine w_cal (pc' := 97) rfl (rfl) (e1) ?_
    have f1 := G1.2.2.2.2.1
    have h9' : k + (sfo A).length ≤ 9 := G1.1
    obtain ⟨t1, t2⟩ := frD_prt hs f1
    refine w_nx (pc' := 98) rfl ?_
    refine w_nx (pc' := 99) rfl ?_
    refine w_nx (pc' := 100) rfl ?_
    refine w_getR rfl rfl (t1) (congrArg va_rf ((t2 2).2.trans h2)) rfl ?_
    refine w_nx (pc' := 104) rfl ?_
    obtain ⟨o, z2, e2, g | g⟩ := hB y q (k + (sfo A).length) z1 (stB _ _ _ f1 pB) (dutT_fr hD f1) G1.2.1 h9' (okQ_fr hq f1.1)
    · obtain ⟨G2, q2⟩ := g
      subst q2
      refine w_cal (pc' := 107) rfl (rfl) (e2) ?_
      have h9'' : k + (sfo A).length + (sfo B).length ≤ 9 := G2.1
      have lA1 := m512 wA.1 h9'
      have lA2 := m512 wA.2.1 h9'
      have lB1 := m512 wB.1 h9''
      have lB2 := m512 wB.2.1 h9''
      have f2 := frD_trans f1 G2.2.2.2.2.1
      have hD2 := dutT_fr hD f2
      have hT2 : (gT z2 104).1 = 3 := by rw [hD2.1]
      refine w_nx (pc' := 109) rfl ?_
      refine w_nx (pc' := 110) rfl ?_
      refine w_nx (pc' := 111) rfl ?_
      refine w_nx (pc' := 113) (S' := .int (nI 9) :: _) rfl ?_
      refine w_nx (pc' := 114) rfl ?_
      refine w_top (pk_hi lA1 lA2) ?_
      refine w_nx (pc' := 116) rfl ?_
      refine w_nx (pc' := 119) (S' := .int (nI 511) :: _) rfl ?_
      refine w_nx (pc' := 120) rfl ?_
      refine w_top (pk_lo lB1) ?_
      obtain ⟨o, z3, e3, b1, b2, b3⟩ := x_follow (d := d + 1) (fir := sFi B * 2 ^ (k + (sfo A).length)) hD2 G2.2.1 h9'' lA2
      subst b1
      refine w_cal (pc' := 123) rfl (a_cv0 rfl rfl rfl (hT2) rfl rfl) (e3) ?_
      refine w_nx (pc' := 124) rfl ?_
      refine w_nx (pc' := 127) (S' := .int (nI 511) :: _) rfl ?_
      refine w_nx (pc' := 128) rfl ?_
      refine w_top (pk_lo lA1) ?_
      refine w_nx (pc' := 130) rfl ?_
      refine w_nx (pc' := 133) (S' := .int ((-512)) :: _) rfl ?_
      refine w_nx (pc' := 134) rfl ?_
      refine w_top (pk_up lB1 lB2) ?_
      have ev : nI (sFi A * 2 ^ k) ||| nI (512 * (sLa B * 2 ^ (k + (sfo A).length))) = nI (sFi (sqTh A B) * 2 ^ k + 512 * (sLa (sqTh A B) * 2 ^ k)) := by
        rw [nI_or, or_add lA1]
        show _ = nI (sFi A * 2 ^ k + 512 * (sLa B * 2 ^ (sfo A).length * 2 ^ k))
        rw [Nat.mul_assoc (sLa B), ← Nat.pow_add, Nat.add_comm (sfo A).length k]
      refine w_nx (pc' := 135) rfl ?_
      refine w_top ev ?_
      refine w_fin rfl (.inl ⟨?_, rfl⟩)
      -- what was laid
      have hmul : sFi B * 2 ^ (k + (sfo A).length) = sFi B * 2 ^ (sfo A).length * 2 ^ k := by rw [Nat.mul_assoc, ← Nat.pow_add, Nat.add_comm (sfo A).length k]
      rw [hmul] at b3
      obtain ⟨a1, a2, a3, a4, a5, a6, a7⟩ := G1
      obtain ⟨c1, c2, c3, c4, c5, c6, c7⟩ := G2
      have s1 : seqAt z3 k (folL (sLa A) (sFi B * 2 ^ (sfo A).length) (sfo A)) (sms A) q := seq_fol (seq_eq a4 fun i hi => c3 (k + i) (by omega)) b2 (by omega) b3
      have s2 : seqAt z3 (k + (folL (sLa A) (sFi B * 2 ^ (sfo A).length) (sfo A)).length) (sfo B) (sms B) q := by
        rw [folL_len]
        exact seq_eq c4 fun i hi => fol_new wA.2.1 b2 b3 _ (by omega)
      have s3 := seq_app s1 s2 (by rw [folL_len]; exact wA.2.2.2)
      rw [folL_len] at s3
      refine ⟨by rw [hl]; omega, ?_, fun i hi => ((fol_old b2 b3 i hi).trans (c3 i (by omega))).trans (a3 i hi), s3, frD_trans f2 (frD_fol b2), (b2.2.2.2.1.trans c6).trans a6, (b2.2.2.2.2.1.trans c7).trans a7⟩
      rw [hl, b2.2.2.2.2.2 104 (by decide), c2, Nat.add_assoc]
    · obtain ⟨x1, x2⟩ := g
      have hx := x2
      obtain ⟨xx, y1, _⟩ := x2
      subst y1
      refine w_thr (rfl) (e2) rfl ?_
      exact .inr ⟨by rw [hl]; omega, layX_pre f1 G1.2.2.2.2.2.1 G1.2.2.2.2.2.2 hx⟩
  · obtain ⟨x1, x2⟩ := g
    have hx := x2
    obtain ⟨xx, y1, _⟩ := x2
    subst y1
    refine w_thr (rfl) (e1) rfl ?_
    exact .inr ⟨by rw [hl]; omega, hx⟩
theorem x_layO {d s q k x y : Nat} {z : aSt} {A B : SQ} {PA PB : aSt → Nat → Prop} (wA : sqW A) (wB : sqW B) (stB : stays PB) (hA : layS (d + 2) PA A) (hB : layS (d + 2) PB B) (hs : okQ z s) (h0 : gR z s 0 = some 10) (h1 : gR z s 1 = some x) (h2 : gR z s 2 = some y) (pA : PA z x) (pB : PB z y) (hD : dutT z) (hk : gI z 104 0 = nI k) (h9 : k ≤ 9) (hq : okQ z q) : aW (d + 3) 58 [.ref 104, .ref s, .ref q] z (layQ z k (sqOr A B) q) := by
  have hTs : (gT z s).1 = 10 := by rw [hs.1]
  have hl : (sfo (sqOr A B)).length = (sfo A).length + (sfo B).length := by
    show (sfo A ++ shL _ _).length = _
    rw [List.length_append, shL_len]
  refine w_of (k := 58) (m := aM_X3_lay) rfl rfl ?_
  refine w_nx (pc' := 1) rfl ?_
  refine w_getR rfl rfl (hTs) (congrArg va_rf (h0)) rfl ?_
  refine w_nx (pc' := 7) rfl ?_
  refine w_nx (pc' := 136) rfl ?_
  refine w_nx (pc' := 137) rfl ?_
  refine w_nx (pc' := 138) rfl ?_
  refine w_getR rfl rfl (hTs) (congrArg va_rf (h1)) rfl ?_
  refine w_nx (pc' := 142) rfl ?_
  obtain ⟨o, z1, e1, g | g⟩ := hA x q k z pA hD hk h9 hq
  · obtain ⟨G1, q1⟩ := g
    subst q1
    refine w_cal (pc' := 145) rfl (rfl) (e1) ?_
    have f1 := G1.2.2.2.2.1
    have h9' : k + (sfo A).length ≤ 9 := G1.1
    obtain ⟨t1, t2⟩ := frD_prt hs f1
    refine w_nx (pc' := 146) rfl ?_
    refine w_nx (pc' := 147) rfl ?_
    refine w_getR rfl rfl (t1) (congrArg va_rf ((t2 2).2.trans h2)) rfl ?_
    refine w_nx (pc' := 151) rfl ?_
    obtain ⟨o, z2, e2, g | g⟩ := hB y q (k + (sfo A).length) z1 (stB _ _ _ f1 pB) (dutT_fr hD f1) G1.2.1 h9' (okQ_fr hq f1.1)
    · obtain ⟨G2, q2⟩ := g
      subst q2
      refine w_cal (pc' := 154) rfl (rfl) (e2) ?_
      have h9'' : k + (sfo A).length + (sfo B).length ≤ 9 := G2.1
      have lA1 := m512 wA.1 h9'
      have lB1 := m512 wB.1 h9''
      have ev : nI (sFi A * 2 ^ k + 512 * (sLa A * 2 ^ k)) ||| nI (sFi B * 2 ^ (k + (sfo A).length) + 512 * (sLa B * 2 ^ (k + (sfo A).length))) = nI (sFi (sqOr A B) * 2 ^ k + 512 * (sLa (sqOr A B) * 2 ^ k)) := by
        rw [nI_or, pk_or lA1 lB1]
        show _ = nI ((sFi A ||| sFi B * 2 ^ (sfo A).length) * 2 ^ k + 512 * ((sLa A ||| sLa B * 2 ^ (sfo A).length) * 2 ^ k))
        rw [or_mul, or_mul, Nat.mul_assoc (sFi B), Nat.mul_assoc (sLa B), ← Nat.pow_add, Nat.add_comm (sfo A).length k]
      refine w_nx (pc' := 155) rfl ?_
      refine w_top ev ?_
      exact w_fin rfl (.inl ⟨lay_app wA.2.2.2 G1 G2, rfl⟩)
    · obtain ⟨x1, x2⟩ := g
      have hx := x2
      obtain ⟨xx, y1, _⟩ := x2
      subst y1
      refine w_thr (rfl) (e2) rfl ?_
      exact .inr ⟨by rw [hl]; omega, layX_pre f1 G1.2.2.2.2.2.1 G1.2.2.2.2.2.2 hx⟩
  · obtain ⟨x1, x2⟩ := g
    have hx := x2
    obtain ⟨xx, y1, _⟩ := x2
    subst y1
    refine w_thr (rfl) (e1) rfl ?_
    exact .inr ⟨by rw [hl]; omega, hx⟩
theorem x_layM {d s q k x : Nat} {z : aSt} {A : SQ} {PA : aSt → Nat → Prop} (wA : sqW A) (hA : layS (d + 2) PA A) (hs : okQ z s) (h0 : gR z s 0 = some 12) (h1 : gR z s 1 = some x) (pA : PA z x) (hD : dutT z) (hk : gI z 104 0 = nI k) (h9 : k ≤ 9) (hq : okQ z q) : aW (d + 3) 58 [.ref 104, .ref s, .ref q] z (layQ z k (sqMo A) q) := by
  have hTs : (gT z s).1 = 10 := by rw [hs.1]
  have hl : (sfo (sqMo A)).length = (sfo A).length := folL_len ..
  refine w_of (k := 58) (m := aM_X3_lay) rfl rfl ?_
  refine w_nx (pc' := 1) rfl ?_
  refine w_getR rfl rfl (hTs) (congrArg va_rf (h0)) rfl ?_
  refine w_nx (pc' := 7) rfl ?_
  refine w_nx (pc' := 156) rfl ?_
  refine w_nx (pc' := 157) rfl ?_
  refine w_nx (pc' := 158) rfl ?_
  refine w_getR rfl rfl (hTs) (congrArg va_rf (h1)) rfl ?_
  refine w_nx (pc' := 162) rfl ?_
  obtain ⟨o, z1, e1, g | g⟩ := hA x q k z pA hD hk h9 hq
  · obtain ⟨G1, q1⟩ := g
    subst q1
    refine w_cal (pc' := 165) rfl (rfl) (e1) ?_
    have f1 := G1.2.2.2.2.1
    have h9' : k + (sfo A).length ≤ 9 := G1.1
    have lA1 := m512 wA.1 h9'
    have lA2 := m512 wA.2.1 h9'
    have hD1 := dutT_fr hD f1
    have hT1 : (gT z1 104).1 = 3 := by rw [hD1.1]
    refine w_nx (pc' := 166) rfl ?_
    refine w_nx (pc' := 167) rfl ?_
    refine w_nx (pc' := 168) rfl ?_
    refine w_nx (pc' := 170) (S' := .int (nI 9) :: _) rfl ?_
    refine w_nx (pc' := 171) rfl ?_
    refine w_top (pk_hi lA1 lA2) ?_
    refine w_nx (pc' := 172) rfl ?_
    refine w_nx (pc' := 175) (S' := .int (nI 511) :: _) rfl ?_
    refine w_nx (pc' := 176) rfl ?_
    refine w_top (pk_lo lA1) ?_
    obtain ⟨o, z3, e3, b1, b2, b3⟩ := x_follow (d := d + 1) (fir := sFi A * 2 ^ k) hD1 G1.2.1 h9' lA2
    subst b1
    refine w_cal (pc' := 179) rfl (a_cv0 rfl rfl rfl (hT1) rfl rfl) (e3) ?_
    refine w_nx (pc' := 180) rfl ?_
    exact w_fin rfl (.inl ⟨lay_fol G1 b2 b3, rfl⟩)
  · obtain ⟨x1, x2⟩ := g
    have hx := x2
    obtain ⟨xx, y1, _⟩ := x2
    subst y1
    refine w_thr (rfl) (e1) rfl ?_
    exact .inr ⟨by rw [hl]; omega, hx⟩
