/-! Reader: here, takes, take, need -/
set_option maxRecDepth 100000
/-- the Reader holds the text tx and stands at a -/
def rdr (z : aSt) (tx : List Nat) (a : Nat) : Prop := gT z 101 = (1, 0) ∧ gR z 101 0 = some 102 ∧ gT z 102 = (41, 40) ∧ gI z 101 1 = nI tx.length ∧ tx.length ≤ 40 ∧ (∀ i, i < tx.length → gI z 102 i = nI (tx.getD i 0)) ∧ (∀ x, x ∈ tx → x < 128) ∧ gI z 101 2 = nI a ∧ a ≤ 1000
theorem tx_lt {tx : List Nat} (h : ∀ x, x ∈ tx → x < 128) (i : Nat) : tx.getD i 0 < 128 := by
  by_cases c : i < tx.length
  · exact h _ (get_mem c)
  · rw [List.getD_eq_getElem?_getD, List.getElem?_eq_none (by omega)]
    decide
theorem nar_c {n : Nat} (h : n < 65536) : vp_nar .char (nI n) = nI n := by
  show ((nI n).toUInt32 % 65536).toInt32 = nI n
  rw [pk_char, pk_tn (by omega), Nat.mod_eq_of_lt h]
theorem x_here {d a : Nat} {tx : List Nat} {z : aSt} (h : rdr z tx a) : aW (d + 1) 35 [.ref 101] z (fun o z' => o = .inl (some (.int (nI (tx.getD a 0)))) ∧ z' = z) := by
  obtain ⟨h1, h2, h3, h4, h5, h6, h7, h8, h9⟩ := h
  have hT : (gT z 101).1 = 1 := by rw [h1]
  have hc := tx_lt h7 a
  refine w_of (k := 35) (m := aM_X2_here) rfl rfl ?_
  refine w_nx (pc' := 1) rfl ?_
  refine w_getI rfl rfl (hT) rfl rfl ?_
  refine w_top (h8) ?_
  refine w_nx (pc' := 5) rfl ?_
  refine w_getI rfl rfl (hT) rfl rfl ?_
  refine w_top (h4) ?_
  refine w_ncge rfl rfl rfl (rfl) (rfl) (by omega) (by omega) (fun hb => ?_) (fun hb => ?_)
  · refine w_nx (pc' := 24) (S' := .int (nI 0) :: _) rfl ?_
    have e : tx.getD a 0 = 0 := by rw [List.getD_eq_getElem?_getD, List.getElem?_eq_none hb]; rfl
    rw [e]
    exact w_fin rfl (⟨rfl, rfl⟩)
  · refine w_nx (pc' := 12) rfl ?_
    refine w_getR rfl rfl (hT) (congrArg va_rf (h2)) rfl ?_
    refine w_nx (pc' := 16) rfl ?_
    refine w_getI rfl rfl (hT) rfl rfl ?_
    refine w_top (h8) ?_
    refine w_ald rfl (fun _ _ _ _ _ _ => rfl) (h3) rfl (rfl) (by omega) (by decide) rfl rfl ?_
    refine w_top (h6 a hb) ?_
    refine w_nx (pc' := 24) rfl ?_
    have hf : aFin aM_X2_here 24 [.int (nI (tx.getD a 0))] z = some (.inl (some (.int (nI (tx.getD a 0))))) := by
      show (if vp_nar .char (nI (tx.getD a 0)) = nI (tx.getD a 0) then _ else none) = _
      rw [if_pos (nar_c (by omega))]
    exact w_fin hf ⟨rfl, rfl⟩
theorem x_need1 {d : Nat} {z : aSt} : aW (d + 1) 34 [.int (nI 1)] z (fun o z' => o = .inl none ∧ z' = z) := by
  refine w_of (k := 34) (m := aM_X2_need) rfl rfl ?_
  refine w_nx (pc' := 1) rfl ?_
  refine w_ifne rfl rfl rfl (fun _ => ?_) (fun h => absurd (show ¬ nI 1 = 0 by decide) h)
  exact w_fin rfl (⟨rfl, rfl⟩)
theorem x_need0 {d : Nat} {z : aSt} : aW (d + 1) 34 [.int (nI 0)] z (fun o z' => o = .inr (100 + gZ z) ∧ z' = aNew z 13 0 6) := by
  refine w_of (k := 34) (m := aM_X2_need) rfl rfl ?_
  refine w_nx (pc' := 1) rfl ?_
  refine w_ifne rfl rfl rfl (fun h => absurd rfl h) (fun _ => ?_)
  exact w_thn rfl ⟨rfl, rfl⟩
theorem x_takes {d a ch : Nat} {tx : List Nat} {z : aSt} (h : rdr z tx a) (hc : ch < 128) : aW (d + 2) 39 [.ref 101, .int (nI ch)] z (fun o z' => (tx.getD a 0 = ch ∧ o = .inl (some (.int (nI 1))) ∧ z' = sI z 101 2 (nI (a + 1))) ∨ (tx.getD a 0 ≠ ch ∧ o = .inl (some (.int (nI 0))) ∧ z' = z)) := by
  have hT : (gT z 101).1 = 1 := by rw [h.1]
  have hl := tx_lt h.2.2.2.2.2.2.1 a
  refine w_of (k := 39) (m := aM_X2_takes) rfl rfl ?_
  refine w_nx (pc' := 1) rfl ?_
  obtain ⟨o, z1, e1, q1, q2⟩ := x_here (d := d) h
  subst q1
  rw [q2] at e1
  refine w_cal (pc' := 4) rfl (a_cv0 rfl rfl rfl (hT) rfl rfl) (e1) ?_
  refine w_nx (pc' := 5) rfl ?_
  refine w_nceq rfl rfl rfl rfl rfl (by omega) (by omega) (fun hb => ?_) (fun hb => ?_)
  · refine w_nx (pc' := 11) rfl ?_
    refine w_nx (pc' := 12) rfl ?_
    refine w_getI rfl rfl (hT) rfl rfl ?_
    refine w_top (h.2.2.2.2.2.2.2.1) ?_
    refine w_nx (pc' := 16) (S' := .int (nI 1) :: _) rfl ?_
    refine w_nx (pc' := 17) rfl ?_
    refine w_top (nI_add _ _) ?_
    refine w_put rfl rfl (hT) (by omega) rfl rfl rfl ?_
    refine w_nx (pc' := 21) (S' := .int (nI 1) :: _) rfl ?_
    exact w_fin rfl (.inl ⟨hb, rfl, rfl⟩)
  · refine w_nx (pc' := 9) (S' := .int (nI 0) :: _) rfl ?_
    exact w_fin rfl (.inr ⟨hb, rfl, rfl⟩)
theorem x_rtake {d a ch : Nat} {tx : List Nat} {z : aSt} (h : rdr z tx a) (hc : ch < 128) : aW (d + 3) 40 [.ref 101, .int (nI ch)] z (fun o z' => (tx.getD a 0 = ch ∧ o = .inl none ∧ z' = sI z 101 2 (nI (a + 1))) ∨ (tx.getD a 0 ≠ ch ∧ o = .inr (100 + gZ z) ∧ z' = aNew z 13 0 6)) := by
  have hT : (gT z 101).1 = 1 := by rw [h.1]
  refine w_of (k := 40) (m := aM_X2_take) rfl rfl ?_
  refine w_nx (pc' := 1) rfl ?_
  refine w_nx (pc' := 2) rfl ?_
  obtain ⟨o, z1, e1, ⟨q1, q2, q3⟩ | ⟨q1, q2, q3⟩⟩ := x_takes (d := d) h hc
  · subst q2
    rw [q3] at e1
    refine w_cal (pc' := 5) rfl (a_cv0 rfl rfl rfl (hT) rfl rfl) (e1) ?_
    obtain ⟨o, z2, e2, b1, b2⟩ := x_need1 (d := d + 1) (z := sI z 101 2 (nI (a + 1)))
    subst b1
    rw [b2] at e2
    refine w_cal (pc' := 8) rfl (rfl) (e2) ?_
    exact w_fin rfl (.inl ⟨q1, rfl, rfl⟩)
  · subst q2
    rw [q3] at e1
    refine w_cal (pc' := 5) rfl (a_cv0 rfl rfl rfl (hT) rfl rfl) (e1) ?_
    obtain ⟨o, z2, e2, b1, b2⟩ := x_need0 (d := d + 1) (z := z)
    subst b1
    rw [b2] at e2
    refine w_thr (rfl) (e2) rfl ?_
    exact .inr ⟨q1, rfl, rfl⟩
