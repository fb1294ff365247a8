/-! Duties.lay, walked -/
set_option maxRecDepth 100000
def ht : Tr → Nat
  | .leaf => 0
  | .inner _ _ _ l r => ht l + ht r + 1
theorem gI_sRq (z : aSt) (a k : Nat) (v : Option Nat) : gI (sR z a k v) = gI z := rfl
theorem gR_sIq (z : aSt) (a k : Nat) (v : Int32) : gR (sI z a k v) = gR z := rfl
theorem seq_eq {z z' : aSt} {k q : Nat} {fo ms : List Nat} (h : seqAt z k fo ms q) (e : ∀ i, i < fo.length → ent z' (k + i) = ent z (k + i)) : seqAt z' k fo ms q := fun i hi => (e i hi).trans (h i hi)
theorem layX_pre {z z1 z2 : aSt} {o : aRes} (f : frD z z1) (hZ : gZ z1 = gZ z) (hS : gS z1 = gS z) (h : layX z1 o z2) : layX z o z2 := by
  obtain ⟨x, h1, h2, h3, h4, h5⟩ := h
  exact ⟨x, h1, h2, frD_trans f h3, by omega, by omega⟩
/-- lay, then lay behind it -/
theorem lay_app {z z1 z2 : aSt} {k q : Nat} {fo1 ms1 fo2 ms2 : List Nat} (hm : ms1.length = fo1.length) (h1 : layG z k fo1 ms1 q z1) (h2 : layG z1 (k + fo1.length) fo2 ms2 q z2) : layG z k (fo1 ++ shL fo1.length fo2) (ms1 ++ ms2) q z2 := by
  obtain ⟨a1, a2, a3, a4, a5, a6, a7⟩ := h1
  obtain ⟨b1, b2, b3, b4, b5, b6, b7⟩ := h2
  have hl : (fo1 ++ shL fo1.length fo2).length = fo1.length + fo2.length := by rw [List.length_append, shL_len]
  refine ⟨by omega, by rw [hl, ← Nat.add_assoc]; exact b2, fun i hi => (b3 i (by omega)).trans (a3 i hi), seq_app (seq_eq a4 fun i hi => b3 (k + i) (by omega)) b4 hm, frD_trans a5 b5, by omega, by omega⟩
/-- lay, then follow within -/
theorem lay_fol {z z1 z2 : aSt} {k q L F : Nat} {fo ms : List Nat} (h1 : layG z k fo ms q z1) (f : frI (fun b => b = 107) z1 z2) (hI : ∀ i, gI z2 107 i = if i < k + fo.length ∧ (L * 2 ^ k).testBit i = true then gI z1 107 i ||| nI (F * 2 ^ k) else gI z1 107 i) : layG z k (folL L F fo) ms q z2 := by
  obtain ⟨a1, a2, a3, a4, a5, a6, a7⟩ := h1
  refine ⟨by rw [folL_len]; exact a1, by rw [folL_len, f.2.2.2.2.2 104 (by decide)]; exact a2, fun i hi => (fol_old f hI i hi).trans (a3 i hi), seq_fol a4 f (Nat.le_refl _) hI, frD_trans a5 (frD_fol f), f.2.2.2.1.trans a6, f.2.2.2.2.1.trans a7⟩
theorem pl1 {k : Nat} (h : k < 9) : nI 1 <<< (nI k &&& 31) ||| nI 1 <<< (nI (9 + k) &&& 31) = nI (1 * 2 ^ k + 512 * (1 * 2 ^ k)) := by
  have h9 := two_lt h
  rw [nI_pow h, nI_shl (by omega) (by rw [Nat.pow_add]; omega), nI_or, Nat.one_mul, Nat.one_mul, ← or_add h9, Nat.pow_add]
theorem x_layP {d k q s m : Nat} {z : aSt} (hs : okQ z s) (h0 : gR z s 0 = some 8) (hm : gI z s 3 = nI m) (hD : dutT z) (hk : gI z 104 0 = nI k) (h9 : k ≤ 9) (hq : okQ z q) : aW (d + 2) 58 [.ref 104, .ref s, .ref q] z (layQ z k (sqPl m) q) := by
  have hT : (gT z 104).1 = 3 := by rw [hD.1]
  have hTs : (gT z s).1 = 10 := by rw [hs.1]
  have hTq : (gT z q).1 = 10 := by rw [hq.1]
  have hs4 := hs.2.2
  refine w_of (k := 58) (m := aM_X3_lay) rfl rfl ?_
  refine w_nx (pc' := 1) rfl ?_
  refine w_getR rfl rfl (hTs) (congrArg va_rf (h0)) rfl ?_
  refine w_nx (pc' := 7) rfl ?_
  refine w_nx (pc' := 40) rfl ?_
  refine w_nx (pc' := 41) rfl ?_
  refine w_nx (pc' := 42) rfl ?_
  by_cases hk9 : k = 9
  · subst hk9
    obtain ⟨o, z1, e1, q1, q2⟩ := x_fresh9 (d := d) hD hk (.inl rfl)
    subst q1 q2
    refine w_thr (a_cv0 rfl rfl rfl (hT) rfl rfl) (e1) rfl ?_
    exact .inr ⟨by show 9 < 9 + 1; omega, _, rfl, if_pos rfl, ⟨fr_new, fun k => by rw [gR_new, if_neg (by have := hD.2.1; omega)], fun k _ => by rw [gI_new, if_neg (by have := hD.2.1; omega)], fun i => .inl (by rw [gR_new, if_neg (by have := hD.2.1; omega)])⟩, rfl, rfl⟩
  · obtain ⟨o, z1, e1, q1, q2⟩ := x_freshN (d := d) hD hk (by omega)
    subst q1 q2
    refine w_cal (pc' := 45) rfl (a_cv0 rfl rfl rfl (hT) rfl rfl) (e1) ?_
    obtain ⟨d1, d2, d3, d4, d5, d6, d7, d8, d9, d10, d11, d12⟩ := hD
    have r2 : gR (sI (sR z 105 k none) 104 0 (nI (k + 1))) 104 2 = some 106 := (gR_ne (by decide)).trans d4
    have r3 : gR (sI (sR z 105 k none) 104 0 (nI (k + 1))) 104 3 = some 107 := (gR_ne (by decide)).trans d5
    have r4 : gR (sI (sR z 105 k none) 104 0 (nI (k + 1))) 104 4 = some 108 := (gR_ne (by decide)).trans d6
    have r5 : gR (sI (sR z 105 k none) 104 0 (nI (k + 1))) 104 5 = some 109 := (gR_ne (by decide)).trans d7
    have m1 : gI (sI (sR z 105 k none) 104 0 (nI (k + 1))) s 3 = nI m := (gI_ne (by omega)).trans hm
    refine w_nx (pc' := 46) rfl ?_
    refine w_nx (pc' := 47) rfl ?_
    refine w_getR rfl rfl (hT) (congrArg va_rf (r2)) rfl ?_
    refine w_nx (pc' := 51) rfl ?_
    refine w_nx (pc' := 52) rfl ?_
    refine w_getI rfl rfl (hTs) rfl rfl ?_
    refine w_top (m1) ?_
    refine w_ast (f := fun x => x) rfl (fun _ _ _ _ _ _ => rfl) (d9) (by omega) (rfl) (by omega) (by decide) rfl ?_
    refine w_nx (pc' := 57) rfl ?_
    refine w_getR rfl rfl (hT) (congrArg va_rf (r3)) rfl ?_
    refine w_nx (pc' := 61) rfl ?_
    refine w_nx (pc' := 62) (S' := .int (nI 0) :: _) rfl ?_
    refine w_ast (f := fun x => x) rfl (fun _ _ _ _ _ _ => rfl) (d10) (by omega) (rfl) (by omega) (by decide) rfl ?_
    refine w_nx (pc' := 64) rfl ?_
    refine w_getR rfl rfl (hT) (congrArg va_rf (r4)) rfl ?_
    refine w_nx (pc' := 68) rfl ?_
    refine w_nx (pc' := 69) (S' := .int (nI 0) :: _) rfl ?_
    refine w_zast rfl (d11) (by omega) (rfl) (by omega) (by decide) rfl ?_
    refine w_nx (pc' := 71) rfl ?_
    refine w_getR rfl rfl (hT) (congrArg va_rf (r5)) rfl ?_
    refine w_nx (pc' := 75) rfl ?_
    refine w_nx (pc' := 76) rfl ?_
    refine w_aast rfl (d12) (by omega) ((congrArg (aAst 45) hTq).trans rfl) (rfl) (by omega) (by decide) rfl ?_
    refine w_nx (pc' := 78) (S' := .int (nI 1) :: _) rfl ?_
    refine w_nx (pc' := 79) rfl ?_
    refine w_nx (pc' := 80) rfl ?_
    refine w_nx (pc' := 81) (S' := .int (nI 1) :: _) rfl ?_
    refine w_nx (pc' := 83) (S' := .int (nI 9) :: _) rfl ?_
    refine w_nx (pc' := 84) rfl ?_
    refine w_nx (pc' := 85) rfl ?_
    refine w_top (nI_add _ _) ?_
    refine w_nx (pc' := 86) rfl ?_
    refine w_nx (pc' := 87) rfl ?_
    refine w_top (pl1 (by omega)) ?_
    refine w_fin rfl (.inl ⟨⟨by show k + 1 ≤ 9; omega, ?_, fun i hi => ?_, fun i hi => ?_, ?_, rfl, rfl⟩, rfl⟩)
    · simp [gI_sI, gI_sRq]; rfl
    · have : i ≠ k := by omega
      simp [ent, gI_sI, gR_sR, gI_sRq, gR_sIq, this]
    · have e : i = 0 := by have : i < 1 := hi; omega
      subst e
      simp [ent, gI_sI, gR_sR, gI_sRq, gR_sIq, sqPl, sfo, sms]
      decide
    · exact frD_trans (frD_trans (frD_trans (frD_trans (frD_trans (frD_sR (by decide) (.inl (by decide))) (frD_sI (.inr ⟨rfl, rfl⟩))) (frD_sI (.inl (by decide)))) (frD_sI (.inl (by decide)))) (frD_sI (.inl (by decide)))) (frD_sR (by decide) (.inr ⟨q, hq.2.2, rfl⟩))
