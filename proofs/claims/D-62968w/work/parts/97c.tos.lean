/-! StringBuilder.toString -/
set_option maxRecDepth 100000
theorem j_chkL {d n : Nat} {z : aSt} (hn : n < 2 ^ 31) : aW (d + 1) 152 [.int (nI 0), .int (nI n)] z (fun o z' => o = .inl none ∧ z' = z) := by
  refine w_of (k := 152) (m := aM_J9_checkLength) rfl rfl ?_
  refine w_nx (pc' := 1) rfl ?_
  refine w_nx (pc' := 2) rfl ?_
  refine w_ncge rfl rfl rfl rfl rfl hn (by decide) (fun _ => ?_) (fun g => absurd g (by omega))
  exact w_fin rfl ⟨rfl, rfl⟩
theorem j_cpy0 {d v n : Nat} {cs : List Nat} {z : aSt} (hT : gT z v = (43, 16)) (hl : lv z v) (hn : cs.length = n) (h16 : n ≤ 16) (hc : ∀ i, i < n → gI z v i = nI (cs.getD i 0) ∧ cs.getD i 0 < 128) : aW (d + 2) 151 [.ref v, .int (nI 0), .int (nI n)] z (fun o z' => o = .inl (some (.ref (100 + gZ z))) ∧ fr (fun _ => False) z z' ∧ gT z' (100 + gZ z) = (43, n) ∧ (∀ i, i < n → gI z' (100 + gZ z) i = nI (cs.getD i 0)) ∧ gZ z' = gZ z + 1 ∧ gS z' = gS z + n) := by
  refine w_of (k := 151) (m := aM_J9_copyOfRangeByte) rfl rfl ?_
  refine w_nx (pc' := 1) rfl ?_
  refine w_nx (pc' := 2) rfl ?_
  obtain ⟨o, z1, e1, q1, q2⟩ := j_chkL (d := d) (z := z) (show n < 2 ^ 31 by omega)
  subst q1
  rw [q2] at e1
  refine w_cal (pc' := 5) rfl (rfl) (e1) ?_
  refine w_nx (pc' := 6) rfl ?_
  refine w_nx (pc' := 7) rfl ?_
  refine w_nx (pc' := 8) rfl ?_
  refine w_top (pk_sub (by omega)) ?_
  refine w_nx (pc' := 9) rfl ?_
  refine w_nx (pc' := 10) rfl ?_
  rw [Nat.sub_zero]
  refine w_newa (t := 43) (pc' := 12) rfl rfl rfl (by omega) ?_
  have hne : v ≠ 100 + gZ z := lv_ne hl
  have hT1 : gT (aNew z 43 n n) v = (43, 16) := by rw [gT_new, if_neg hne, hT]
  have hTn : gT (aNew z 43 n n) (100 + gZ z) = (43, n) := by rw [gT_new, if_pos rfl]
  have hI : ∀ i, gI (aNew z 43 n n) v i = gI z v i := fun i => by rw [gI_new, if_neg hne]
  have fN : fr (fun _ => False) z (aNew z 43 n n) := fr_new
  have hZ : gZ (aNew z 43 n n) = gZ z + 1 := rfl
  have hS : gS (aNew z 43 n n) = gS z + n := rfl
  have h100 : 100 ≤ 100 + gZ z := Nat.le_add_right _ _
  have hnl : ¬ lv z (100 + gZ z) := by unfold lv; omega
  generalize aNew z 43 n n = z1 at hT1 hTn hI fN hZ hS ⊢
  generalize 100 + gZ z = a at *
  refine w_nx (pc' := 14) rfl ?_
  refine w_nx (pc' := 15) rfl ?_
  refine w_nx (pc' := 16) rfl ?_
  refine w_nx (pc' := 18) rfl ?_
  refine w_nx (pc' := 19) (S' := .int (nI 0) :: _) rfl ?_
  refine w_nx (pc' := 20) rfl ?_
  refine w_len rfl hT1 rfl rfl ?_
  have hmin : (if nI n < nI 16 then nI n else nI 16) = nI n := by
    have key : ∀ n, n ≤ 16 → (if nI n < nI 16 then nI n else nI 16) = nI n := by decide
    exact key n h16
  refine w_nx (pc' := 22) rfl ?_
  refine w_nx (pc' := 23) rfl ?_
  refine w_top ((pk_sub (by decide)).trans (congrArg nI (show 16 - 0 = 16 from rfl))) ?_
  refine w_nx (pc' := 24) rfl ?_
  refine w_nx (pc' := 27) rfl ?_
  refine w_top (hmin) ?_
  refine w_acpB (pc' := 30) (sp := 0) (dp := 0) (n := n) rfl rfl hT1 rfl hTn h100 rfl rfl rfl rfl (by omega) (by omega) (by decide) (by omega) (fun j hj => ?_) rfl ?_
  · rw [Nat.zero_add, hI, (hc j hj).1]
    exact nar_b _ (hc j hj).2
  refine w_nx (pc' := 32) rfl ?_
  have fI := frI_cI (F := fun x => x = a) (z := z1) (s := v) (sp := 0) (d := a) (dp := 0) (n := n) rfl
  refine w_fin rfl ⟨rfl, fr_old fN fI.fr (fun b hb g => ?_), hTn, fun i hi => ?_, hZ, hS⟩
  · rw [g] at hb; exact hnl hb
  · rw [gI_cI, if_pos rfl, if_pos (by omega), show 0 + (i - 0) = i by omega, hI]
    exact (hc i hi).1
theorem j_cpy {d v n : Nat} {cs : List Nat} {z : aSt} (hT : gT z v = (43, 16)) (hl : lv z v) (hn : cs.length = n) (h16 : n < 16) (hc : ∀ i, i < n → gI z v i = nI (cs.getD i 0) ∧ cs.getD i 0 < 128) : aW (d + 3) 150 [.ref v, .int (nI 0), .int (nI n)] z (fun o z' => o = .inl (some (.ref (100 + gZ z))) ∧ fr (fun _ => False) z z' ∧ gT z' (100 + gZ z) = (43, n) ∧ (∀ i, i < n → gI z' (100 + gZ z) i = nI (cs.getD i 0)) ∧ gZ z' = gZ z + 1 ∧ gS z' = gS z + n) := by
  refine w_of (k := 150) (m := aM_J9_copyOfRange) rfl rfl ?_
  refine w_nx (pc' := 1) rfl ?_
  refine w_ifne rfl rfl rfl (fun g => absurd rfl g) (fun _ => ?_)
  refine w_nx (pc' := 5) rfl ?_
  refine w_nx (pc' := 6) rfl ?_
  refine w_len rfl hT rfl rfl ?_
  refine w_nceq rfl rfl rfl rfl rfl (by omega) (by decide) (fun g => absurd g (by omega)) (fun _ => ?_)
  refine w_nx (pc' := 11) rfl ?_
  refine w_nx (pc' := 12) rfl ?_
  refine w_nx (pc' := 13) rfl ?_
  obtain ⟨o, z1, e1, q1, q2⟩ := j_cpy0 (d := d) hT hl hn (by omega) hc
  subst q1
  refine w_cal (pc' := 16) rfl (rfl) (e1) ?_
  exact w_fin rfl ⟨rfl, q2⟩
theorem j_gval {d b v : Nat} {z : aSt} (hT : (gT z b).1 = 11) (hv : gR z b 0 = some v) (hTv : gT z v = (43, 16)) : aW (d + 1) 173 [.ref b] z (fun o z' => o = .inl (some (.ref v)) ∧ z' = z) := by
  refine w_of (k := 173) (m := aM_J19_getValue) rfl rfl ?_
  refine w_nx (pc' := 1) rfl ?_
  refine w_getR rfl rfl (hT) (congrArg va_rf (hv)) rfl ?_
  exact w_fin rfl ⟨rfl, rfl⟩
theorem j_blen0 {d b n : Nat} {z : aSt} (hT : (gT z b).1 = 11) (hn : gI z b 3 = nI n) : aW (d + 1) 174 [.ref b] z (fun o z' => o = .inl (some (.int (nI n))) ∧ z' = z) := by
  refine w_of (k := 174) (m := aM_J19_length) rfl rfl ?_
  refine w_nx (pc' := 1) rfl ?_
  refine w_getI rfl rfl (hT) rfl rfl ?_
  refine w_top (hn) ?_
  exact w_fin rfl ⟨rfl, rfl⟩
theorem j_blen {d b n : Nat} {z : aSt} (hT : (gT z b).1 = 11) (hn : gI z b 3 = nI n) : aW (d + 2) 179 [.ref b] z (fun o z' => o = .inl (some (.int (nI n))) ∧ z' = z) := by
  refine w_of (k := 179) (m := aM_J20_length) rfl rfl ?_
  refine w_nx (pc' := 1) rfl ?_
  obtain ⟨o, z1, e1, q1, q2⟩ := j_blen0 (d := d) hT hn
  subst q1
  rw [q2] at e1
  refine w_cal (pc' := 4) rfl (a_cv5 rfl rfl rfl (hT) rfl rfl) (e1) ?_
  exact w_fin rfl ⟨rfl, rfl⟩
theorem j_sini {d s b v : Nat} {cs : List Nat} {z : aSt} (hb : sbR z b v cs) (hl : lv z v) (hlb : lv z b) (hT : gT z s = (12, 0)) (hs : 100 ≤ s) (hls : lv z s) (h16 : cs.length < 16) : aW (d + 4) 163 [.ref s, .ref b, .null] z (fun o z' => o = .inl none ∧ strR z' s cs ∧ fr (fun x => x = s) z z' ∧ gZ z' = gZ z + 1 ∧ gS z' = gS z + cs.length) := by
  have hb0 := hb
  obtain ⟨h1, h2, h3, h4, h5, h6, h7, h8, h9⟩ := hb
  have hTb : (gT z b).1 = 11 := by rw [h1]
  have hTs : (gT z s).1 = 12 := by rw [hT]
  refine w_of (k := 163) (m := aM_J18_init_2) rfl rfl ?_
  refine w_nx (pc' := 1) rfl ?_
  refine w_nx (pc' := 4) rfl ?_
  refine w_nx (pc' := 5) rfl ?_
  obtain ⟨o, z1, e1, q1, q2⟩ := j_gval (d := d + 2) hTb h3 h6
  subst q1
  rw [q2] at e1
  refine w_cal (pc' := 8) rfl (a_cv0 rfl rfl rfl (hTb) rfl rfl) (e1) ?_
  refine w_nx (pc' := 9) rfl ?_
  refine w_nx (pc' := 10) rfl ?_
  obtain ⟨o, z1, e1, q1, q2⟩ := j_blen (d := d + 1) hTb h5
  subst q1
  rw [q2] at e1
  refine w_cal (pc' := 13) rfl (a_cv4 rfl rfl rfl (hTb) rfl rfl) (e1) ?_
  refine w_nx (pc' := 15) rfl ?_
  refine w_nx (pc' := 16) rfl ?_
  obtain ⟨o, z1, e1, q1, q2⟩ := j_blat (d := d + 2) hTb h4
  subst q1
  rw [q2] at e1
  refine w_cal (pc' := 19) rfl (a_cv0 rfl rfl rfl (hTb) rfl rfl) (e1) ?_
  refine w_ifeq rfl rfl rfl (fun g => absurd g (by decide)) (fun _ => ?_)
  refine w_nx (pc' := 23) rfl ?_
  refine w_nx (pc' := 24) (S' := .int (nI 0) :: _) rfl ?_
  refine w_put rfl rfl (hTs) (by omega) rfl (rfl) rfl ?_
  have hsv : s ≠ v := fun e => by rw [e, h6] at hT; cases hT
  have hTv' : gT (sI z s 1 (nI 0)) v = (43, 16) := h6
  have hc' : ∀ i, i < cs.length → gI (sI z s 1 (nI 0)) v i = nI (cs.getD i 0) ∧ cs.getD i 0 < 128 := fun i hi => ⟨(gI_ne hsv.symm).trans (h9 i hi).1, (h9 i hi).2⟩
  refine w_nx (pc' := 28) rfl ?_
  refine w_nx (pc' := 29) rfl ?_
  refine w_nx (pc' := 30) (S' := .int (nI 0) :: _) rfl ?_
  refine w_nx (pc' := 32) rfl ?_
  obtain ⟨o, z1, e1, q1, q2, q3, q4, q5, q6⟩ := j_cpy (d := d) (z := sI z s 1 (nI 0)) hTv' hl rfl h16 hc'
  subst q1
  refine w_cal (pc' := 35) rfl (rfl) (e1) ?_
  have hls' : lv (sI z s 1 (nI 0)) s := hls
  have hTs1 : (gT z1 s).1 = 12 := by rw [q2.2.1 s hls']; exact hTs
  have hZ0 : gZ (sI z s 1 (nI 0)) = gZ z := rfl
  have hS0 : gS (sI z s 1 (nI 0)) = gS z := rfl
  have hne : s ≠ 100 + gZ z := lv_ne hls
  refine w_put rfl rfl hTs1 hs rfl rfl rfl ?_
  refine w_nx (pc' := 97) rfl ?_
  refine w_fin rfl ⟨rfl, ⟨?_, ?_, ?_, 100 + gZ z, 43, gR_same .., q3, .inl rfl, ?_, by omega, fun i hi => ?_⟩, fr_old (fr_old (F := fun x => x = s) (fr_sI fun _ => rfl) q2 (fun b _ g => g.elim)) (fr_sR (F := fun x => x = s) fun _ => rfl) (fun b _ g => g), q5, q6⟩
  · exact (q2.2.1 s hls').trans hT
  · show gI z1 s 1 = nI 0
    exact ((q2.2.2 s hls' (fun g => g) 1).1).trans (gI_same ..)
  · exact (show lv z1 s from lv_fr q2 hls')
  · show 100 + gZ z < 100 + gZ z1
    omega
  · exact ⟨q4 i hi, (h9 i hi).2⟩
theorem j_sini1 {d s b v : Nat} {cs : List Nat} {z : aSt} (hb : sbR z b v cs) (hl : lv z v) (hlb : lv z b) (hT : gT z s = (12, 0)) (hs : 100 ≤ s) (hls : lv z s) (h16 : cs.length < 16) : aW (d + 5) 162 [.ref s, .ref b] z (fun o z' => o = .inl none ∧ strR z' s cs ∧ fr (fun x => x = s) z z' ∧ gZ z' = gZ z + 1 ∧ gS z' = gS z + cs.length) := by
  refine w_of (k := 162) (m := aM_J18_init) rfl rfl ?_
  refine w_nx (pc' := 1) rfl ?_
  refine w_nx (pc' := 2) rfl ?_
  refine w_nx (pc' := 3) rfl ?_
  obtain ⟨o, z1, e1, q1, q2⟩ := j_sini (d := d) hb hl hlb hT hs hls h16
  subst q1
  refine w_cal (pc' := 6) rfl (rfl) (e1) ?_
  exact w_fin rfl ⟨rfl, q2⟩
theorem j_tos {d b v : Nat} {cs : List Nat} {z : aSt} (hb : sbR z b v cs) (hl : lv z v) (hlb : lv z b) (h16 : cs.length < 16) : aW (d + 6) 178 [.ref b] z (fun o z' => ∃ s, o = .inl (some (.ref s)) ∧ 100 + gZ z ≤ s ∧ strR z' s cs ∧ fr (fun _ => False) z z' ∧ gZ z' = gZ z + 2 ∧ gS z' = gS z + 4 + cs.length) := by
  have fN : fr (fun _ => False) z (aNew z 12 0 4) := fr_new
  have hT1 : gT (aNew z 12 0 4) (100 + gZ z) = (12, 0) := by rw [gT_new, if_pos rfl]
  have hZ : gZ (aNew z 12 0 4) = gZ z + 1 := rfl
  have hS : gS (aNew z 12 0 4) = gS z + 4 := rfl
  have hb1 : sbR (aNew z 12 0 4) b v cs := by
    obtain ⟨h1, h2, h3, h4, h5, h6, h7, h8, h9⟩ := hb
    have kb := fN.2.2 b hlb (fun g => g)
    have kv := fN.2.2 v hl (fun g => g)
    exact ⟨(fN.2.1 b hlb).trans h1, h2, ((kb 0).2.2).trans h3, ((kb 1).1).trans h4, ((kb 3).1).trans h5, (fN.2.1 v hl).trans h6, h7, h8, fun i hi => ⟨((kv i).1).trans (h9 i hi).1, (h9 i hi).2⟩⟩
  refine w_of (k := 178) (m := aM_J20_toString) rfl rfl ?_
  refine w_nx (pc' := 3) rfl ?_
  refine w_nx (pc' := 4) rfl ?_
  refine w_nx (pc' := 5) rfl ?_
  generalize aNew z 12 0 4 = z1 at fN hT1 hZ hS hb1 ⊢
  obtain ⟨o, z2, e2, q1, q2, q3, q4, q5⟩ := j_sini1 (d := d) hb1 (lv_fr fN hl) (lv_fr fN hlb) hT1 (Nat.le_add_right _ _) (show lv z1 (100 + gZ z) by unfold lv; omega) h16
  subst q1
  refine w_cal (pc' := 8) rfl (rfl) (e2) ?_
  exact w_fin rfl ⟨_, rfl, Nat.le_refl _, q2, fr_old fN q3 (fun b hb g => by unfold lv at hb; omega), by omega, by omega⟩
