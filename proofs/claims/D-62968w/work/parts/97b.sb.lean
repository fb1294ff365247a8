/-! StringBuilders -/
set_option maxRecDepth 100000
theorem j_sbi0 {d b : Nat} {z : aSt} (hT : gT z b = (11, 0)) (h1 : 100 ≤ b) (h2 : b < 100 + gZ z) : aW (d + 1) 166 [.ref b, .int (nI 16)] z (fun o z' => o = .inl none ∧ z' = sI (sR (aNew z 43 16 16) b 0 (some (100 + gZ z))) b 1 (nI 0)) := by
  have hT1 : (gT (aNew z 43 16 16) b).1 = 11 := by rw [gT_new, if_neg (by omega), hT]
  refine w_of (k := 166) (m := aM_J19_init) rfl rfl ?_
  refine w_nx (pc' := 1) rfl ?_
  refine w_nx (pc' := 4) rfl ?_
  refine w_nx (pc' := 7) rfl ?_
  refine w_ifeq rfl rfl rfl (fun g => absurd g (by decide)) (fun _ => ?_)
  refine w_nx (pc' := 11) rfl ?_
  refine w_nx (pc' := 12) rfl ?_
  refine w_newa (t := 43) (pc' := 14) rfl rfl (rfl) (by decide) ?_
  refine w_put rfl rfl hT1 h1 rfl rfl rfl ?_
  have hT2 : (gT (sR (aNew z 43 16 16) b 0 (some (100 + gZ z))) b).1 = 11 := hT1
  refine w_nx (pc' := 18) rfl ?_
  refine w_nx (pc' := 19) (S' := .int (nI 0) :: _) rfl ?_
  refine w_put rfl rfl (hT2) (by omega) rfl (rfl) rfl ?_
  refine w_nx (pc' := 38) rfl ?_
  exact w_fin rfl ⟨rfl, rfl⟩
theorem j_sbi {d b : Nat} {z : aSt} (hT : gT z b = (11, 0)) (h1 : 100 ≤ b) (h2 : b + 1 = 100 + gZ z) (h0 : ∀ k, gI z b k = 0) : aW (d + 2) 175 [.ref b] z (fun o z' => o = .inl none ∧ sbR z' b (b + 1) [] ∧ fr (fun x => x = b) z z' ∧ gZ z' = gZ z + 1 ∧ gS z' = gS z + 16) := by
  refine w_of (k := 175) (m := aM_J20_init) rfl rfl ?_
  refine w_nx (pc' := 1) rfl ?_
  refine w_nx (pc' := 3) (S' := .int (nI 16) :: _) rfl ?_
  obtain ⟨o, z1, e1, q1, q2⟩ := j_sbi0 (d := d) hT h1 (by omega)
  subst q1
  rw [q2] at e1
  refine w_cal (pc' := 6) rfl (rfl) (e1) ?_
  have hne : b ≠ 100 + gZ z := by omega
  refine w_fin rfl ⟨rfl, ⟨?_, h1, ?_, gI_same .., ?_, ?_, by omega, by decide, fun i hi => absurd hi (by show ¬ i < 0; omega)⟩, fr_trans (fr_trans fr_new (fr_sR fun _ => rfl)) (fr_sI fun _ => rfl), rfl, rfl⟩
  · show gT (aNew z 43 16 16) b = _
    rw [gT_new, if_neg hne, hT]
  · show gR (sR (aNew z 43 16 16) b 0 (some (100 + gZ z))) b 0 = _
    rw [gR_same, h2]
  · rw [gI_nk (by decide)]
    show gI (aNew z 43 16 16) b 3 = _
    rw [gI_new, if_neg hne, h0]
    rfl
  · show gT (aNew z 43 16 16) (b + 1) = _
    rw [gT_new, if_pos h2]
theorem le16 : ∀ n, n ≤ 16 → nI n - nI 16 ≤ 0 := by decide
theorem j_ens {d b v n : Nat} {cs : List Nat} {z : aSt} (h : sbR z b v cs) (hn : n ≤ 16) : aW (d + 1) 168 [.ref b, .int (nI n)] z (fun o z' => o = .inl none ∧ z' = z) := by
  obtain ⟨h1, h2, h3, h4, h5, h6, h7, h8, h9⟩ := h
  have hT : (gT z b).1 = 11 := by rw [h1]
  refine w_of (k := 168) (m := aM_J19_ensureCapacityInternal) rfl rfl ?_
  refine w_nx (pc' := 1) rfl ?_
  refine w_getR rfl rfl (hT) (congrArg va_rf (h3)) rfl ?_
  refine w_len rfl (h6) rfl rfl ?_
  refine w_nx (pc' := 6) rfl ?_
  refine w_getI rfl rfl (hT) rfl rfl ?_
  refine w_top (h4) ?_
  refine w_nx (pc' := 10) rfl ?_
  refine w_top ((nI_shr (by decide) (by decide)).trans (congrArg nI (show 16 / 2 ^ 0 = 16 from rfl))) ?_
  refine w_nx (pc' := 11) rfl ?_
  refine w_nx (pc' := 12) rfl ?_
  refine w_nx (pc' := 13) rfl ?_
  refine w_nx (pc' := 14) rfl ?_
  refine w_ifle rfl rfl rfl (fun _ => ?_) (fun g => absurd (le16 n hn) g)
  exact w_fin rfl ⟨rfl, rfl⟩
theorem j_blat {d b : Nat} {z : aSt} (hT : (gT z b).1 = 11) (hc : gI z b 1 = nI 0) : aW (d + 1) 169 [.ref b] z (fun o z' => o = .inl (some (.int (nI 1))) ∧ z' = z) := by
  refine w_of (k := 169) (m := aM_J19_isLatin1) rfl rfl ?_
  refine w_nx (pc' := 3) rfl ?_
  refine w_ifeq rfl rfl rfl (fun g => absurd g (by decide)) (fun _ => ?_)
  refine w_nx (pc' := 7) rfl ?_
  refine w_getI rfl rfl (hT) rfl rfl ?_
  refine w_top (hc) ?_
  refine w_ifne rfl rfl rfl (fun g => absurd rfl g) (fun _ => ?_)
  refine w_nx (pc' := 14) (S' := .int (nI 1) :: _) rfl ?_
  refine w_nx (pc' := 18) rfl ?_
  exact w_fin rfl ⟨rfl, rfl⟩
theorem j_infl {d b s : Nat} {z : aSt} (hT : (gT z b).1 = 11) (hc : gI z b 1 = nI 0) (hT2 : (gT z s).1 = 12) (hc2 : gI z s 1 = nI 0) : aW (d + 2) 171 [.ref b, .ref s] z (fun o z' => o = .inl none ∧ z' = z) := by
  refine w_of (k := 171) (m := aM_J19_inflateIfNeededFor) rfl rfl ?_
  refine w_nx (pc' := 3) rfl ?_
  refine w_ifeq rfl rfl rfl (fun g => absurd g (by decide)) (fun _ => ?_)
  refine w_nx (pc' := 7) rfl ?_
  refine w_getI rfl rfl (hT) rfl rfl ?_
  refine w_top (hc) ?_
  refine w_nx (pc' := 11) rfl ?_
  obtain ⟨o, z1, e1, q1, q2⟩ := j_coder (d := d) hT2 hc2
  subst q1
  rw [q2] at e1
  refine w_cal (pc' := 14) rfl (a_cv0 rfl rfl rfl (hT2) rfl rfl) (e1) ?_
  refine w_iceq rfl rfl rfl (fun _ => ?_) (fun g => absurd rfl g)
  exact w_fin rfl ⟨rfl, rfl⟩
theorem j_getB {d s v n dst : Nat} {cs : List Nat} {z : aSt} (h : strR z s cs) (hd : gT z dst = (43, 16)) (hd2 : 100 ≤ dst) (hn : n + cs.length ≤ 16) : aW (d + 2) 161 [.ref s, .ref dst, .int (nI n), .int (nI 0)] z (fun o z' => o = .inl none ∧ frI (fun x => x = dst) z z' ∧ (∀ i, i < n → gI z' dst i = gI z dst i) ∧ ∀ i, i < cs.length → gI z' dst (n + i) = nI (cs.getD i 0)) := by
  obtain ⟨h1, h2, h3, v, t, h4, h5, h6, h7, h8, h9⟩ := h
  have hT : (gT z s).1 = 12 := by rw [h1]
  refine w_of (k := 161) (m := aM_J18_getBytes) rfl rfl ?_
  refine w_nx (pc' := 1) rfl ?_
  obtain ⟨o, z1, e1, q1, q2⟩ := j_coder (d := d) hT h2
  subst q1
  rw [q2] at e1
  refine w_cal (pc' := 4) rfl (a_cv0 rfl rfl rfl (hT) rfl rfl) (e1) ?_
  refine w_nx (pc' := 5) rfl ?_
  refine w_icne rfl rfl rfl (fun g => absurd rfl g) (fun _ => ?_)
  refine w_nx (pc' := 9) rfl ?_
  refine w_getR rfl rfl (hT) (congrArg va_rf (h4)) rfl ?_
  refine w_nx (pc' := 13) (S' := .int (nI 0) :: _) rfl ?_
  refine w_nx (pc' := 14) rfl ?_
  refine w_nx (pc' := 15) rfl ?_
  refine w_nx (pc' := 16) rfl ?_
  refine w_nx (pc' := 17) rfl ?_
  refine w_top ((nI_shl (by decide) (by omega)).trans (congrArg nI (show n * 2 ^ 0 = n by rw [Nat.pow_zero, Nat.mul_one]))) ?_
  refine w_nx (pc' := 18) rfl ?_
  refine w_getR rfl rfl (hT) (congrArg va_rf (h4)) rfl ?_
  refine w_len rfl h5 (byT_l h6) rfl ?_
  refine w_acpB (pc' := 25) (sp := 0) (dp := n) (n := cs.length) rfl rfl h5 (byT_s h6) hd hd2 rfl rfl rfl rfl (by omega) hn (by omega) (by decide) (fun j hj => ?_) rfl ?_
  · rw [Nat.zero_add, (h9 j hj).1]
    exact nar_b _ (h9 j hj).2
  refine w_nx (pc' := 43) rfl ?_
  have fI := frI_cI (F := fun x => x = dst) (z := z) (s := v) (sp := 0) (d := dst) (dp := n) (n := cs.length) rfl
  refine w_fin rfl ⟨rfl, fI, fun i hi => ?_, fun i hi => ?_⟩
  · rw [gI_cI, if_pos rfl, if_neg (by omega)]
  · rw [gI_cI, if_pos rfl, if_pos (by omega), show 0 + (n + i - n) = i by omega]
    exact (h9 i hi).1
theorem gd_apN {l t : List Nat} {i : Nat} : (l ++ t).getD i 0 = if i < l.length then l.getD i 0 else t.getD (i - l.length) 0 := gd_app ..
theorem j_put {d b s v n : Nat} {cs ds : List Nat} {z : aSt} (hb : sbR z b v cs) (h : strR z s ds) (hn : n + ds.length ≤ 16) : aW (d + 3) 170 [.ref b, .int (nI n), .ref s] z (fun o z' => o = .inl none ∧ frI (fun x => x = v) z z' ∧ (∀ i, i < n → gI z' v i = gI z v i) ∧ ∀ i, i < ds.length → gI z' v (n + i) = nI (ds.getD i 0)) := by
  obtain ⟨h1, h2, h3, h4, h5, h6, h7, h8, h9⟩ := hb
  have hT : (gT z b).1 = 11 := by rw [h1]
  have hT2 : (gT z s).1 = 12 := by rw [h.1]
  refine w_of (k := 170) (m := aM_J19_putStringAt) rfl rfl ?_
  refine w_nx (pc' := 1) rfl ?_
  refine w_nx (pc' := 2) rfl ?_
  obtain ⟨o, z1, e1, q1, q2⟩ := j_infl (d := d) hT h4 hT2 h.2.1
  subst q1
  rw [q2] at e1
  refine w_cal (pc' := 5) rfl (a_cv0 rfl rfl rfl (hT) rfl rfl) (e1) ?_
  refine w_nx (pc' := 6) rfl ?_
  refine w_nx (pc' := 7) rfl ?_
  refine w_getR rfl rfl (hT) (congrArg va_rf (h3)) rfl ?_
  refine w_nx (pc' := 11) rfl ?_
  refine w_nx (pc' := 12) rfl ?_
  refine w_getI rfl rfl (hT) rfl rfl ?_
  refine w_top (h4) ?_
  obtain ⟨o, z1, e1, q1, q2⟩ := j_getB (d := d) (v := v) h h6 h7 hn
  subst q1
  refine w_cal (pc' := 18) rfl (a_cv0 rfl rfl rfl (hT2) rfl rfl) (e1) ?_
  exact w_fin rfl ⟨rfl, q2⟩
theorem strR_fr {F : Nat → Prop} {z z' : aSt} {s : Nat} {cs : List Nat} (h : strR z s cs) (f : fr F z z') (h1 : ¬ F s) (h2 : ∀ v, gR z s 0 = some v → ¬ F v) : strR z' s cs := by
  obtain ⟨a1, a2, a3, v, t, a4, a5, a6, a7, a8, a9⟩ := h
  exact ⟨(f.2.1 s a3).trans a1, ((f.2.2 s a3 h1 1).1).trans a2, lv_fr f a3, v, t, ((f.2.2 s a3 h1 0).2.2).trans a4, (f.2.1 v a7).trans a5, a6, lv_fr f a7, a8, fun i hi => ⟨((f.2.2 v a7 (h2 v a4) i).1).trans (a9 i hi).1, (a9 i hi).2⟩⟩
/-- more bytes behind -/
theorem sb_more {b v : Nat} {cs ds : List Nat} {z z1 : aSt} (hb : sbR z b v cs) (f : frI (fun x => x = v) z z1) (hn : cs.length + ds.length ≤ 16) (h1 : ∀ i, i < cs.length → gI z1 v i = gI z v i) (h2 : ∀ i, i < ds.length → gI z1 v (cs.length + i) = nI (ds.getD i 0) ∧ ds.getD i 0 < 128) : sbR (sI z1 b 3 (nI (cs.length + ds.length))) b v (cs ++ ds) := by
  have hne := sb_ne hb
  obtain ⟨a1, a2, a3, a4, a5, a6, a7, a8, a9⟩ := hb
  have hlen : (cs ++ ds).length = cs.length + ds.length := List.length_append
  refine ⟨?_, a2, ?_, ?_, ?_, ?_, a7, by omega, fun i hi => ?_⟩
  · show gT z1 b = _
    rw [f.1]; exact a1
  · show gR z1 b 0 = _
    rw [f.2.2.1]; exact a3
  · rw [gI_nk (by decide), f.2.2.2.2.2 b (fun e => hne e.symm)]; exact a4
  · rw [gI_same, hlen]
  · show gT z1 v = _
    rw [f.1]; exact a6
  · rw [gI_ne hne, gd_apN]
    rw [hlen] at hi
    by_cases c : i < cs.length
    · rw [if_pos c, h1 i c]; exact a9 i c
    · rw [if_neg c]
      have := h2 (i - cs.length) (by omega)
      rw [show cs.length + (i - cs.length) = i by omega] at this
      exact this
theorem j_app0 {d b s v : Nat} {cs ds : List Nat} {z : aSt} (hb : sbR z b v cs) (h : strR z s ds) (hn : cs.length + ds.length ≤ 16) : aW (d + 4) 167 [.ref b, .ref s] z (fun o z' => o = .inl (some (.ref b)) ∧ sbR z' b v (cs ++ ds) ∧ frI (fun x => x = b ∨ x = v) z z') := by
  have hb0 := hb
  have h0 := h
  obtain ⟨h1, h2, h3, h4, h5, h6, h7, h8, h9⟩ := hb
  have hT : (gT z b).1 = 11 := by rw [h1]
  have hT2 : (gT z s).1 = 12 := by rw [h.1]
  have hne := sb_ne hb0
  obtain ⟨_, _, _, vs, ts, _, _, _, _, _, hds⟩ := h
  refine w_of (k := 167) (m := aM_J19_append) rfl rfl ?_
  refine w_nx (pc' := 1) rfl ?_
  refine w_inon (u := some s) rfl rfl rfl (fun x hx => ?_) (fun hx => by cases hx)
  refine w_nx (pc' := 10) rfl ?_
  obtain ⟨o, z1, e1, q1, q2⟩ := j_slen (d := d + 1) h0
  subst q1
  rw [q2] at e1
  refine w_cal (pc' := 13) rfl (a_cv0 rfl rfl rfl (hT2) rfl rfl) (e1) ?_
  refine w_nx (pc' := 14) rfl ?_
  refine w_nx (pc' := 15) rfl ?_
  refine w_nx (pc' := 16) rfl ?_
  refine w_getI rfl rfl (hT) rfl rfl ?_
  refine w_top (h5) ?_
  refine w_nx (pc' := 20) rfl ?_
  refine w_nx (pc' := 21) rfl ?_
  refine w_top (nI_add _ _) ?_
  obtain ⟨o, z1, e1, q1, q2⟩ := j_ens (d := d + 2) hb0 hn
  subst q1
  rw [q2] at e1
  refine w_cal (pc' := 24) rfl (a_cv0 rfl rfl rfl (hT) rfl rfl) (e1) ?_
  refine w_nx (pc' := 25) rfl ?_
  refine w_nx (pc' := 26) rfl ?_
  refine w_getI rfl rfl (hT) rfl rfl ?_
  refine w_top (h5) ?_
  refine w_nx (pc' := 30) rfl ?_
  obtain ⟨o, z1, e1, q1, q2, q3, q4⟩ := j_put (d := d) hb0 h0 hn
  subst q1
  refine w_cal (pc' := 33) rfl (a_cv0 rfl rfl rfl (hT) rfl rfl) (e1) ?_
  have hTb : (gT z1 b).1 = 11 := by rw [q2.1]; exact hT
  have c1 : gI z1 b 3 = nI cs.length := (q2.2.2.2.2.2 b (fun e => hne e.symm) 3).trans h5
  refine w_nx (pc' := 34) rfl ?_
  refine w_nx (pc' := 35) rfl ?_
  refine w_getI rfl rfl (hTb) rfl rfl ?_
  refine w_top (c1) ?_
  refine w_nx (pc' := 39) rfl ?_
  refine w_nx (pc' := 40) rfl ?_
  refine w_top (nI_add _ _) ?_
  refine w_put rfl rfl (hTb) (by omega) rfl rfl rfl ?_
  refine w_nx (pc' := 44) rfl ?_
  exact w_fin rfl ⟨rfl, sb_more hb0 q2 hn q3 (fun i hi => ⟨q4 i hi, (hds i hi).2⟩), frI_trans (frI_mono q2 fun x g => .inr g) (frI_sI (.inl rfl))⟩
theorem j_app {d b s v : Nat} {cs ds : List Nat} {z : aSt} (hb : sbR z b v cs) (h : strR z s ds) (hn : cs.length + ds.length ≤ 16) : aW (d + 5) 176 [.ref b, .ref s] z (fun o z' => o = .inl (some (.ref b)) ∧ sbR z' b v (cs ++ ds) ∧ frI (fun x => x = b ∨ x = v) z z') := by
  have hT : (gT z b).1 = 11 := by rw [hb.1]
  refine w_of (k := 176) (m := aM_J20_append) rfl rfl ?_
  refine w_nx (pc' := 1) rfl ?_
  refine w_nx (pc' := 2) rfl ?_
  obtain ⟨o, z1, e1, q1, q2⟩ := j_app0 (d := d) hb h hn
  subst q1
  refine w_cal (pc' := 5) rfl (a_cv5 rfl rfl rfl (hT) rfl rfl) (e1) ?_
  refine w_nx (pc' := 6) rfl ?_
  refine w_nx (pc' := 7) rfl ?_
  exact w_fin rfl ⟨rfl, q2⟩
/-! numbers -/
theorem ss1 : ∀ n, n < 10 → ¬ (-nI n ≤ -10) := by decide
theorem ss2 : ∀ n, n < 100 → 10 ≤ n → -nI n ≤ -10 := by decide
theorem ss3 : ∀ n, n < 100 → ¬ (-nI n ≤ -100) := by decide
theorem j_ssize {d n : Nat} {z : aSt} (hn : n < 100) : aW (d + 1) 181 [.int (nI n)] z (fun o z' => o = .inl (some (.int (nI (if n < 10 then 1 else 2)))) ∧ z' = z) := by
  refine w_of (k := 181) (m := aM_J23_stringSize) rfl rfl ?_
  refine w_nx (pc' := 1) (S' := .int (nI 1) :: _) rfl ?_
  refine w_nx (pc' := 2) rfl ?_
  refine w_nx (pc' := 3) rfl ?_
  refine w_iflt rfl rfl rfl (fun g => absurd g (nI_pos (by omega))) (fun _ => ?_)
  refine w_nx (pc' := 7) (S' := .int (nI 0) :: _) rfl ?_
  refine w_nx (pc' := 8) rfl ?_
  refine w_nx (pc' := 9) rfl ?_
  refine w_nx (pc' := 10) rfl ?_
  refine w_nx (pc' := 11) rfl ?_
  refine w_nx (pc' := 13) (S' := .int ((-10)) :: _) rfl ?_
  refine w_nx (pc' := 14) rfl ?_
  refine w_nx (pc' := 15) (S' := .int (nI 1) :: _) rfl ?_
  refine w_nx (pc' := 16) rfl ?_
  refine w_nx (pc' := 17) rfl ?_
  refine w_nx (pc' := 19) (S' := .int (nI 10) :: _) rfl ?_
  refine w_icge rfl rfl rfl (fun g => absurd g (by decide)) (fun _ => ?_)
  refine w_nx (pc' := 23) rfl ?_
  refine w_nx (pc' := 24) rfl ?_
  by_cases c : n < 10
  · refine w_icle rfl rfl rfl (fun g => absurd g (ss1 n c)) (fun _ => ?_)
    refine w_nx (pc' := 28) rfl ?_
    refine w_nx (pc' := 29) rfl ?_
    refine w_nx (pc' := 30) rfl ?_
    refine w_top (nI_add _ _) ?_
    rw [if_pos c]
    exact w_fin rfl ⟨rfl, rfl⟩
  · refine w_icle rfl rfl rfl (fun _ => ?_) (fun g => absurd (ss2 n hn (by omega)) g)
    refine w_nx (pc' := 33) (S' := .int (nI 10) :: _) rfl ?_
    refine w_nx (pc' := 34) rfl ?_
    refine w_nx (pc' := 35) rfl ?_
    refine w_top ((show nI 10 * (-10) = -100 by decide)) ?_
    refine w_nx (pc' := 36) rfl ?_
    refine w_iinc rfl rfl (nI_1 _) rfl rfl ?_
    refine w_nx (pc' := 16) rfl ?_
    show wR _ _ _ 16 [some (.int (-nI n)), some (.int (nI 0)), some (.int (-100)), some (.int (nI 2))] [] z
    refine w_nx (pc' := 17) rfl ?_
    refine w_nx (pc' := 19) (S' := .int (nI 10) :: _) rfl ?_
    refine w_icge rfl rfl rfl (fun g => absurd g (by decide)) (fun _ => ?_)
    refine w_nx (pc' := 23) rfl ?_
    refine w_nx (pc' := 24) rfl ?_
    refine w_icle rfl rfl rfl (fun g => absurd g (ss3 n hn)) (fun _ => ?_)
    refine w_nx (pc' := 28) rfl ?_
    refine w_nx (pc' := 29) rfl ?_
    refine w_nx (pc' := 30) rfl ?_
    refine w_top (nI_add _ _) ?_
    rw [if_neg c]
    exact w_fin rfl ⟨rfl, rfl⟩
/-- the digits' tables -/
def digT (z : aSt) : Prop := gT z 14 = (51, 100) ∧ gT z 15 = (52, 100) ∧ ∀ k, k < 100 → gI z 14 k = nI (48 + k / 10) ∧ gI z 15 k = nI (48 + k % 10)
def dig (n : Nat) : List Nat := if n < 10 then [48 + n] else [48 + n / 10, 48 + n % 10]
theorem dig_len (n : Nat) : (dig n).length = if n < 10 then 1 else 2 := by
  unfold dig
  split <;> rfl
theorem gc1 : ∀ n, n < 100 → -nI n > -100 := by decide
theorem gc2 : ∀ n, n < 10 → -nI n ≥ -9 := by decide
theorem gc3 : ∀ n, n < 100 → 10 ≤ n → ¬ -nI n ≥ -9 := by decide
theorem j_getC {d n k v : Nat} {z : aSt} (hn : n < 100) (hd : digT z) (hv : gT z v = (43, 16)) (hv2 : 100 ≤ v) (hk : k + (dig n).length ≤ 16) : aW (d + 1) 182 [.int (nI n), .int (nI (k + (dig n).length)), .ref v] z (fun o z' => o = .inl (some (.int (nI k))) ∧ frI (fun x => x = v) z z' ∧ (∀ i, i < k → gI z' v i = gI z v i) ∧ ∀ i, i < (dig n).length → gI z' v (k + i) = nI ((dig n).getD i 0)) := by
  obtain ⟨t1, t2, t3⟩ := hd
  have nn : - -nI n = nI n := Int32.neg_neg
  refine w_of (k := 182) (m := aM_J23_getChars) rfl rfl ?_
  refine w_nx (pc' := 1) rfl ?_
  refine w_nx (pc' := 3) rfl ?_
  refine w_nx (pc' := 4) rfl ?_
  refine w_ifge rfl rfl rfl (fun _ => ?_) (fun g => absurd (Int32.not_lt.mp (nI_pos (by omega))) g)
  refine w_nx (pc' := 12) (S' := .int (nI 0) :: _) rfl ?_
  refine w_nx (pc' := 14) rfl ?_
  refine w_nx (pc' := 16) rfl ?_
  refine w_ifne rfl rfl rfl (fun g => absurd rfl g) (fun _ => ?_)
  refine w_nx (pc' := 20) rfl ?_
  refine w_nx (pc' := 21) rfl ?_
  refine w_nx (pc' := 22) rfl ?_
  refine w_nx (pc' := 23) rfl ?_
  refine w_nx (pc' := 25) (S' := .int ((-100)) :: _) rfl ?_
  refine w_icgt rfl rfl rfl (fun _ => ?_) (fun g => absurd (gc1 n hn) g)
  have t31 := (t3 n hn).1
  have t32 := (t3 n hn).2
  by_cases c : n < 10
  · have hl : (dig n).length = 1 := by rw [dig_len, if_pos c]
    have hg : (dig n).getD 0 0 = 48 + n := by unfold dig; rw [if_pos c]; rfl
    rw [hl] at hk ⊢
    refine w_nx (pc' := 73) rfl ?_
    refine w_iinc rfl rfl (nI_m1 k) rfl rfl ?_
    refine w_nx (pc' := 78) rfl ?_
    refine w_nx (pc' := 81) rfl ?_
    refine w_nx (pc' := 82) rfl ?_
    refine w_nx (pc' := 83) rfl ?_
    refine w_top (nn) ?_
    refine w_ald rfl (fun _ _ _ _ _ _ => rfl) t2 rfl rfl hn (by decide) rfl rfl ?_
    refine w_top (t32.trans (congrArg nI (show 48 + n % 10 = 48 + n by omega))) ?_
    refine w_bast rfl hv hv2 rfl (show k < 16 by omega) (by decide) rfl ?_
    rw [nar_b _ (by omega)]
    refine w_nx (pc' := 86) rfl ?_
    refine w_nx (pc' := 88) (S' := .int ((-9)) :: _) rfl ?_
    refine w_icge rfl rfl rfl (fun _ => ?_) (fun g => absurd (gc2 n c) g)
    refine w_nx (pc' := 106) rfl ?_
    refine w_ifeq rfl rfl rfl (fun _ => ?_) (fun g => absurd rfl g)
    refine w_nx (pc' := 120) rfl ?_
    refine w_fin rfl ⟨rfl, frI_sI rfl, fun i hi => gI_nk (by omega), fun i hi => ?_⟩
    have : i = 0 := by omega
    subst this
    rw [hg]
    exact gI_same ..
  · have hl : (dig n).length = 2 := by rw [dig_len, if_neg c]
    have hg0 : (dig n).getD 0 0 = 48 + n / 10 := by unfold dig; rw [if_neg c]; rfl
    have hg1 : (dig n).getD 1 0 = 48 + n % 10 := by unfold dig; rw [if_neg c]; rfl
    rw [hl] at hk ⊢
    refine w_nx (pc' := 73) rfl ?_
    refine w_iinc rfl rfl (nI_m1 (k + 1)) rfl rfl ?_
    refine w_nx (pc' := 78) rfl ?_
    refine w_nx (pc' := 81) rfl ?_
    refine w_nx (pc' := 82) rfl ?_
    refine w_nx (pc' := 83) rfl ?_
    refine w_top (nn) ?_
    refine w_ald rfl (fun _ _ _ _ _ _ => rfl) t2 rfl rfl hn (by decide) rfl rfl ?_
    refine w_top t32 ?_
    refine w_bast rfl hv hv2 rfl (show k + 1 < 16 by omega) (by decide) rfl ?_
    rw [nar_b _ (by omega)]
    refine w_nx (pc' := 86) rfl ?_
    refine w_nx (pc' := 88) (S' := .int ((-9)) :: _) rfl ?_
    refine w_icge rfl rfl rfl (fun g => absurd g (gc3 n hn (by omega))) (fun _ => ?_)
    have hv' : v ≠ 14 := by omega
    have t1' : gT (sI z v (k + 1) (nI (48 + n % 10))) 14 = (51, 100) := t1
    have hvv : gT (sI z v (k + 1) (nI (48 + n % 10))) v = (43, 16) := hv
    have t31' : gI (sI z v (k + 1) (nI (48 + n % 10))) 14 n = nI (48 + n / 10) := (gI_ne hv'.symm).trans t31
    refine w_nx (pc' := 92) rfl ?_
    refine w_iinc rfl rfl (nI_m1 k) rfl rfl ?_
    refine w_nx (pc' := 97) rfl ?_
    refine w_nx (pc' := 100) rfl ?_
    refine w_nx (pc' := 101) rfl ?_
    refine w_nx (pc' := 102) rfl ?_
    refine w_top (nn) ?_
    refine w_ald rfl (fun _ _ _ _ _ _ => rfl) t1' rfl rfl hn (by decide) rfl rfl ?_
    refine w_top t31' ?_
    refine w_bast rfl hvv hv2 rfl (show k < 16 by omega) (by decide) rfl ?_
    rw [nar_b _ (by omega)]
    refine w_nx (pc' := 106) rfl ?_
    refine w_ifeq rfl rfl rfl (fun _ => ?_) (fun g => absurd rfl g)
    refine w_nx (pc' := 120) rfl ?_
    refine w_fin rfl ⟨rfl, frI_trans (frI_sI rfl) (frI_sI rfl), fun i hi => (gI_nk (by omega)).trans (gI_nk (by omega)), fun i hi => ?_⟩
    have : i = 0 ∨ i = 1 := by omega
    rcases this with rfl | rfl
    · rw [hg0]
      exact gI_same ..
    · rw [hg1, gI_nk (by omega)]
      exact gI_same ..
theorem dig_lt {n : Nat} (hn : n < 100) (i : Nat) (hi : i < (dig n).length) : (dig n).getD i 0 < 128 := by
  have key : ∀ n, n < 100 → ∀ i, i < 2 → i < (dig n).length → (dig n).getD i 0 < 128 := by decide
  refine key n hn i ?_ hi
  rw [dig_len] at hi
  split at hi <;> omega
theorem j_appI0 {d b v n : Nat} {cs : List Nat} {z : aSt} (hb : sbR z b v cs) (hd : digT z) (hn : n < 100) (hl : cs.length + (dig n).length ≤ 16) : aW (d + 2) 172 [.ref b, .int (nI n)] z (fun o z' => o = .inl (some (.ref b)) ∧ sbR z' b v (cs ++ dig n) ∧ frI (fun x => x = b ∨ x = v) z z') := by
  have hb0 := hb
  obtain ⟨h1, h2, h3, h4, h5, h6, h7, h8, h9⟩ := hb
  have hT : (gT z b).1 = 11 := by rw [h1]
  have hne := sb_ne hb0
  refine w_of (k := 172) (m := aM_J19_append_2) rfl rfl ?_
  refine w_nx (pc' := 1) rfl ?_
  refine w_getI rfl rfl (hT) rfl rfl ?_
  refine w_top (h5) ?_
  refine w_nx (pc' := 5) rfl ?_
  refine w_nx (pc' := 6) rfl ?_
  refine w_nx (pc' := 7) rfl ?_
  obtain ⟨o, z1, e1, q1, q2⟩ := j_ssize (d := d) (z := z) hn
  subst q1
  rw [q2, ← dig_len] at e1
  refine w_cal (pc' := 10) rfl (rfl) (e1) ?_
  refine w_nx (pc' := 11) rfl ?_
  refine w_top (nI_add _ _) ?_
  refine w_nx (pc' := 12) rfl ?_
  refine w_nx (pc' := 13) rfl ?_
  refine w_nx (pc' := 14) rfl ?_
  obtain ⟨o, z1, e1, q1, q2⟩ := j_ens (d := d) hb0 hl
  subst q1
  rw [q2] at e1
  refine w_cal (pc' := 17) rfl (a_cv0 rfl rfl rfl (hT) rfl rfl) (e1) ?_
  refine w_nx (pc' := 18) rfl ?_
  obtain ⟨o, z1, e1, q1, q2⟩ := j_blat (d := d) hT h4
  subst q1
  rw [q2] at e1
  refine w_cal (pc' := 21) rfl (a_cv0 rfl rfl rfl (hT) rfl rfl) (e1) ?_
  refine w_ifeq rfl rfl rfl (fun g => absurd g (by decide)) (fun _ => ?_)
  refine w_nx (pc' := 25) rfl ?_
  refine w_nx (pc' := 26) rfl ?_
  refine w_nx (pc' := 27) rfl ?_
  refine w_getR rfl rfl (hT) (congrArg va_rf (h3)) rfl ?_
  obtain ⟨o, z1, e1, q1, q2, q3, q4⟩ := j_getC (d := d) hn hd h6 h7 hl
  subst q1
  refine w_cal (pc' := 33) rfl (rfl) (e1) ?_
  have hTb : (gT z1 b).1 = 11 := by rw [q2.1]; exact hT
  refine w_nx (pc' := 34) rfl ?_
  refine w_nx (pc' := 48) rfl ?_
  refine w_nx (pc' := 49) rfl ?_
  refine w_nx (pc' := 50) rfl ?_
  refine w_put rfl rfl (hTb) (by omega) rfl rfl rfl ?_
  refine w_nx (pc' := 54) rfl ?_
  exact w_fin rfl ⟨rfl, sb_more hb0 q2 hl q3 (fun i hi => ⟨q4 i hi, dig_lt hn i hi⟩), frI_trans (frI_mono q2 fun x g => .inr g) (frI_sI (.inl rfl))⟩
theorem j_appI {d b v n : Nat} {cs : List Nat} {z : aSt} (hb : sbR z b v cs) (hd : digT z) (hn : n < 100) (hl : cs.length + (dig n).length ≤ 16) : aW (d + 3) 177 [.ref b, .int (nI n)] z (fun o z' => o = .inl (some (.ref b)) ∧ sbR z' b v (cs ++ dig n) ∧ frI (fun x => x = b ∨ x = v) z z') := by
  have hT : (gT z b).1 = 11 := by rw [hb.1]
  refine w_of (k := 177) (m := aM_J20_append_2) rfl rfl ?_
  refine w_nx (pc' := 1) rfl ?_
  refine w_nx (pc' := 2) rfl ?_
  obtain ⟨o, z1, e1, q1, q2⟩ := j_appI0 (d := d) hb hd hn hl
  subst q1
  refine w_cal (pc' := 5) rfl (a_cv5 rfl rfl rfl (hT) rfl rfl) (e1) ?_
  refine w_nx (pc' := 6) rfl ?_
  refine w_nx (pc' := 7) rfl ?_
  exact w_fin rfl ⟨rfl, q2⟩
