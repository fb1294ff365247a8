/-! Strings -/
set_option maxRecDepth 100000
theorem w_acpB {call : aRel} {m : aMi} {Q : aRes → aSt → Prop} {pc pc' : Nat} {L : List (Option Value)} {S : List Value} {z : aSt} {i : Instr} {s sp d dp n ns nd t : Nat} {x y w : Int32} (ha : aAt m pc = some i) (hs : aStep (mOwn m) (mIni m) i pc L (.int w :: .int y :: .ref d :: .int x :: .ref s :: S) z = a_acp (pc + 3) L (.int w :: .int y :: .ref d :: .int x :: .ref s :: S) z) (h1 : gT z s = (t, ns)) (ht : a_same t 43 = true) (h2 : gT z d = (43, nd)) (hA : 100 ≤ d) (hl : Nat.ble S.length 12 = true)
    (hx : x = nI sp) (hy : y = nI dp) (hw : w = nI n) (h3 : sp + n ≤ ns) (h4 : dp + n ≤ nd) (h5 : ns < 2 ^ 31) (h6 : nd < 2 ^ 31) (he : ∀ j, j < n → vp_nar .byte (gI z s (sp + j)) = gI z s (sp + j)) (hp : pc + 3 = pc') (c : wR call m Q pc' L S (cI z s sp d dp n)) : wR call m Q pc L (.int w :: .int y :: .ref d :: .int x :: .ref s :: S) z := by
  subst hp hx hy hw
  refine w_nx (L' := L) (S' := S) (z1 := cI z s sp d dp n) ?_ c
  rw [a_nxi ha, hs]
  unfold a_acp
  simp only [h1, h2]
  rw [if_pos ⟨ht, hA, Nat.le_of_ble_eq_true hl⟩, nI_clamp (by omega), nI_clamp (by omega), nI_clamp (by omega), if_neg ?_]
  · rw [if_neg (by decide), if_pos trivial, if_pos (List.all_eq_true.mpr fun j hj => decide_eq_true (he j (List.mem_range.mp hj)))]
    rfl
  · rintro (g | g | g | g | g)
    · exact nI_pos (by omega) g
    · exact nI_pos (by omega) g
    · exact nI_pos (by omega) g
    · omega
    · omega
def byT (t : Nat) : Prop := t = 43 ∨ (53 ≤ t ∧ t < 60)
theorem byT_l {t : Nat} (h : byT t) : (Nat.ble 40 t && Nat.blt t 60) = true := by
  have h1 : Nat.ble 40 t = true := Nat.ble_eq_true_of_le (by unfold byT at h; omega)
  have h2 : Nat.blt t 60 = true := Nat.ble_eq.mpr (by unfold byT at h; omega)
  rw [h1, h2]
  rfl
theorem byT_s {t : Nat} (h : byT t) : a_same t 43 = true := by
  have : ∀ t, t < 60 → byT t → a_same t 43 = true := by
    intro t ht hb
    rcases hb with rfl | hb
    · decide
    · have e : ∀ t, t < 60 → 53 ≤ t → a_same t 43 = true := by decide
      exact e t ht hb.1
  exact this t (by unfold byT at h; omega) h
/-- a String -/
def strR (z : aSt) (s : Nat) (cs : List Nat) : Prop := gT z s = (12, 0) ∧ gI z s 1 = nI 0 ∧ lv z s ∧ ∃ v t, gR z s 0 = some v ∧ gT z v = (t, cs.length) ∧ byT t ∧ lv z v ∧ cs.length ≤ 16 ∧ ∀ i, i < cs.length → gI z v i = nI (cs.getD i 0) ∧ cs.getD i 0 < 128
/-- a StringBuilder b, its bytes v -/
def sbR (z : aSt) (b v : Nat) (cs : List Nat) : Prop := gT z b = (11, 0) ∧ 100 ≤ b ∧ gR z b 0 = some v ∧ gI z b 1 = nI 0 ∧ gI z b 3 = nI cs.length ∧ gT z v = (43, 16) ∧ 100 ≤ v ∧ cs.length ≤ 16 ∧ ∀ i, i < cs.length → gI z v i = nI (cs.getD i 0) ∧ cs.getD i 0 < 128
theorem sb_ne {z : aSt} {b v : Nat} {cs : List Nat} (h : sbR z b v cs) : v ≠ b := fun e => by
  have := h.1
  rw [← e, h.2.2.2.2.2.1] at this
  cases this
theorem j_coder {d s : Nat} {z : aSt} (hT : (gT z s).1 = 12) (hc : gI z s 1 = nI 0) : aW (d + 1) 160 [.ref s] z (fun o z' => o = .inl (some (.int (nI 0))) ∧ z' = z) := by
  refine w_of (k := 160) (m := aM_J18_coder) rfl rfl ?_
  refine w_nx (pc' := 3) rfl ?_
  refine w_ifeq rfl rfl rfl (fun g => absurd g (by decide)) (fun _ => ?_)
  refine w_nx (pc' := 7) rfl ?_
  refine w_getI rfl rfl (hT) rfl rfl ?_
  refine w_top (hc) ?_
  refine w_nx (pc' := 14) rfl ?_
  exact w_fin rfl ⟨rfl, rfl⟩
theorem j_latin {d s : Nat} {z : aSt} (hT : (gT z s).1 = 12) (hc : gI z s 1 = nI 0) : aW (d + 1) 165 [.ref s] z (fun o z' => o = .inl (some (.int (nI 1))) ∧ z' = z) := by
  refine w_of (k := 165) (m := aM_J18_isLatin1) rfl rfl ?_
  refine w_nx (pc' := 3) rfl ?_
  refine w_ifeq rfl rfl rfl (fun g => absurd g (by decide)) (fun _ => ?_)
  refine w_nx (pc' := 7) rfl ?_
  refine w_getI rfl rfl (hT) rfl rfl ?_
  refine w_top (hc) ?_
  refine w_ifne rfl rfl rfl (fun g => absurd rfl g) (fun _ => ?_)
  refine w_nx (pc' := 14) (S' := .int (nI 1) :: _) rfl ?_
  refine w_nx (pc' := 18) rfl ?_
  exact w_fin rfl ⟨rfl, rfl⟩
theorem j_slen {d s : Nat} {cs : List Nat} {z : aSt} (h : strR z s cs) : aW (d + 2) 159 [.ref s] z (fun o z' => o = .inl (some (.int (nI cs.length))) ∧ z' = z) := by
  obtain ⟨h1, h2, h3, v, t, h4, h5, h6, h7, h8, h9⟩ := h
  have hT : (gT z s).1 = 12 := by rw [h1]
  refine w_of (k := 159) (m := aM_J18_length) rfl rfl ?_
  refine w_nx (pc' := 1) rfl ?_
  refine w_getR rfl rfl (hT) (congrArg va_rf (h4)) rfl ?_
  refine w_len rfl h5 (byT_l h6) rfl ?_
  refine w_nx (pc' := 6) rfl ?_
  obtain ⟨o, z1, e1, q1, q2⟩ := j_coder (d := d) hT h2
  subst q1
  rw [q2] at e1
  refine w_cal (pc' := 9) rfl (a_cv0 rfl rfl rfl (hT) rfl rfl) (e1) ?_
  refine w_nx (pc' := 10) rfl ?_
  refine w_top ((nI_shr (by omega) (by decide)).trans (congrArg nI (show cs.length / 2 ^ 0 = cs.length by rw [Nat.pow_zero, Nat.div_one]))) ?_
  exact w_fin rfl ⟨rfl, rfl⟩
theorem c255 : ∀ c, c < 128 → nI c &&& nI 255 = nI c := by decide
theorem nar_b : ∀ c, c < 128 → vp_nar .byte (nI c) = nI c := by decide
theorem j_charAt0 {d v t i n c : Nat} {z : aSt} (hT : gT z v = (t, n)) (ht : byT t) (hn : n ≤ 16) (hi : i < n) (hc : gI z v i = nI c) (hc2 : c < 128) : aW (d + 1) 180 [.ref v, .int (nI i)] z (fun o z' => o = .inl (some (.int (nI c))) ∧ z' = z) := by
  refine w_of (k := 180) (m := aM_J22_charAt) rfl rfl ?_
  refine w_nx (pc' := 1) rfl ?_
  refine w_nx (pc' := 2) rfl ?_
  refine w_len rfl hT (byT_l ht) rfl ?_
  have hx : a_chx 6 [some (.ref v), some (.int (nI i))] [.int (nI n), .int (nI i)] z = some (6, [some (.ref v), some (.int (nI i))], [], z) := by
    show (if 0 ≤ nI i ∧ nI i < nI n ∧ ([] : List Value).length ≤ 4 then _ else none) = _
    rw [if_pos ⟨Int32.not_lt.mp (nI_pos (by omega)), (nI_ltI (by omega) (by omega)).mpr hi, by decide⟩]
  refine w_nx (pc' := 6) (L' := [some (.ref v), some (.int (nI i))]) (S' := []) (z1 := z) hx ?_
  refine w_nx (pc' := 7) rfl ?_
  refine w_nx (pc' := 8) rfl ?_
  have hv : aVal z t v i = .int (gI z v i) := by
    rcases ht with rfl | ⟨h1, h2⟩
    · rfl
    · have : t = 53 ∨ t = 54 ∨ t = 55 ∨ t = 56 ∨ t = 57 ∨ t = 58 ∨ t = 59 := by omega
      rcases this with rfl | rfl | rfl | rfl | rfl | rfl | rfl <;> rfl
  have hts : ([42, 43, 51, 52, 53, 54, 55, 56, 57, 58, 59] : List Nat).contains t = true := by
    rcases ht with rfl | ⟨h1, h2⟩
    · rfl
    · have : t = 53 ∨ t = 54 ∨ t = 55 ∨ t = 56 ∨ t = 57 ∨ t = 58 ∨ t = 59 := by omega
      rcases this with rfl | rfl | rfl | rfl | rfl | rfl | rfl <;> rfl
  refine w_ald rfl (fun _ _ _ _ _ _ => rfl) hT hts rfl hi (by omega) hv rfl ?_
  refine w_top hc ?_
  refine w_nx (pc' := 12) (S' := .int (nI 255) :: _) rfl ?_
  refine w_nx (pc' := 13) rfl ?_
  refine w_top (c255 c hc2) ?_
  refine w_nx (pc' := 14) (S' := .int (vp_nar .char (nI c)) :: _) rfl ?_
  refine w_top (nar_c (by omega)) ?_
  have hf : aFin aM_J22_charAt 14 [.int (nI c)] z = some (.inl (some (.int (nI c)))) := by
    show (if vp_nar .char (nI c) = nI c then _ else none) = _
    rw [if_pos (nar_c (by omega))]
  exact w_fin hf ⟨rfl, rfl⟩
theorem j_charAt {d s i : Nat} {cs : List Nat} {z : aSt} (h : strR z s cs) (hi : i < cs.length) : aW (d + 2) 164 [.ref s, .int (nI i)] z (fun o z' => o = .inl (some (.int (nI (cs.getD i 0)))) ∧ z' = z) := by
  obtain ⟨h1, h2, h3, v, t, h4, h5, h6, h7, h8, h9⟩ := h
  have hT : (gT z s).1 = 12 := by rw [h1]
  refine w_of (k := 164) (m := aM_J18_charAt) rfl rfl ?_
  refine w_nx (pc' := 1) rfl ?_
  obtain ⟨o, z1, e1, q1, q2⟩ := j_latin (d := d) hT h2
  subst q1
  rw [q2] at e1
  refine w_cal (pc' := 4) rfl (a_cv0 rfl rfl rfl (hT) rfl rfl) (e1) ?_
  refine w_ifeq rfl rfl rfl (fun g => absurd g (by decide)) (fun _ => ?_)
  refine w_nx (pc' := 8) rfl ?_
  refine w_getR rfl rfl (hT) (congrArg va_rf (h4)) rfl ?_
  refine w_nx (pc' := 12) rfl ?_
  obtain ⟨o, z1, e1, q1, q2⟩ := j_charAt0 (d := d) h5 h6 h8 hi (h9 i hi).1 (h9 i hi).2
  subst q1
  rw [q2] at e1
  refine w_cal (pc' := 15) rfl (rfl) (e1) ?_
  have hf : aFin aM_J18_charAt 15 [.int (nI (cs.getD i 0))] z = some (.inl (some (.int (nI (cs.getD i 0))))) := by
    show (if vp_nar .char (nI (cs.getD i 0)) = nI (cs.getD i 0) then _ else none) = _
    rw [if_pos (nar_c (by have := (h9 i hi).2; omega))]
  exact w_fin hf ⟨rfl, rfl⟩
