/-! Row.add -/
set_option maxRecDepth 100000
theorem gd_app (l1 l2 : List Nat) (i : Nat) : (l1 ++ l2).getD i 0 = if i < l1.length then l1.getD i 0 else l2.getD (i - l1.length) 0 := by
  simp only [List.getD_eq_getElem?_getD, List.getElem?_append]
  split <;> rfl
theorem x_add2 {d r s : Nat} {l : List Nat} {p : Nat → Bool} (hl : ok l) (hs : s < 512) (hn : ¬ up l s) (hp : ∀ a, p a = true ↔ ¬ sb s a) : ∀ (n k : Nat) (z : aSt) (F1 F2 : List Nat), k + n = l.length → rowOk z r → gI z r 1 = nI l.length →
    (l.take k).filter p = F1 ++ F2 → (∀ a ∈ F1, a < s) → (∀ a ∈ F2, s ≤ a) →
    (∀ i, i < (F1 ++ F2).length → gI z (r + 1) i = nI ((F1 ++ F2).getD i 0)) → (∀ i, k ≤ i → i < l.length → gI z (r + 1) i = nI (l.getD i 0)) →
    wR (aEx d) aM_X4_add (fun o z' => o = .inl none ∧ frI (rF r) z z' ∧ isRow z' r (fun x => up l x ∨ sb s x)) 40 [some (.ref r), some (.int (nI s)), some (.int (nI (F1 ++ F2).length)), some (.int (nI F1.length)), some (.int (nI k))] [] z := by
  intro n
  have hlen := ok_len hl
  induction n with
  | zero =>
    intro k z F1 F2 hk h hm hf hF1 hF2 hA hB
    have h0 := h
    obtain ⟨h1, h2, h3, h4⟩ := h
    have hT : (gT z r).1 = 4 := by rw [h1]
    have hk' : k = l.length := by omega
    have hfl : (F1 ++ F2).length ≤ 126 := by
      rw [← hf]
      exact Nat.le_trans (List.length_filter_le ..) (by rw [List.length_take]; omega)
    refine w_nx (pc' := 42) rfl ?_
    refine w_nx (pc' := 43) rfl ?_
    refine w_getI rfl rfl (hT) rfl rfl ?_
    refine w_top (hm) ?_
    refine w_ncge rfl rfl rfl (rfl) (rfl) (by omega) (by omega) (fun hb => ?_) (fun hb => ?_)
    · refine w_nx (pc' := 102) rfl ?_
      refine w_nx (pc' := 104) rfl ?_
      rw [List.length_append] at hfl
      refine w_loc (L' := [some (.ref r), some (.int (nI s)), some (.int (nI (F1 ++ F2).length)), some (.int (nI F1.length)), some (.int (nI (F1.length + F2.length)))]) (by rw [List.length_append]; rfl) ?_
      refine w_imp ?_ (x_add3 (d := d) (r := r) (s := s) (F := F1 ++ F2) (place := F1.length) (left := (F1 ++ F2).length) rfl (by rw [List.length_append]; omega) F2.length z h0 (by rw [List.length_append]; omega) (fun i hi => hA i (by rw [List.length_append]; omega)) (fun i hi hj => ?_))
      · intro o z' ⟨q1, q2, q3⟩
        rw [List.take_left' rfl, List.drop_left' rfl] at q3
        rw [hk', List.take_length] at hf
        have q4 := ok_add hl hs hn hp hf hF1 hF2
        exact ⟨q1, q2, _, q3, q4.1, fun x => (q4.2 x).symm⟩
      · rw [List.length_append] at hj
        omega
    · omega
  | succ n ih =>
    intro k z F1 F2 hk h hm hf hF1 hF2 hA hB
    have h0 := h
    obtain ⟨h1, h2, h3, h4⟩ := h
    have hT : (gT z r).1 = 4 := by rw [h1]
    have hkl : k < l.length := by omega
    have hfl : (F1 ++ F2).length ≤ k := by
      rw [← hf]
      exact Nat.le_trans (List.length_filter_le ..) (by rw [List.length_take]; omega)
    have htk : l.take (k + 1) = l.take k ++ [l.getD k 0] := by
      rw [List.take_succ, List.getD_eq_getElem?_getD, List.getElem?_eq_getElem hkl]
      rfl
    have hmem : l.getD k 0 ∈ l := by
      rw [List.getD_eq_getElem?_getD, List.getElem?_eq_getElem hkl]
      exact List.getElem_mem _
    have hlt := hl.2.2 _ hmem
    have hval := hB k (Nat.le_refl k) hkl
    refine w_nx (pc' := 42) rfl ?_
    refine w_nx (pc' := 43) rfl ?_
    refine w_getI rfl rfl (hT) rfl rfl ?_
    refine w_top (hm) ?_
    refine w_ncge rfl rfl rfl (rfl) (rfl) (by omega) (by omega) (fun hb => ?_) (fun hb => ?_)
    · omega
    · refine w_nx (pc' := 50) rfl ?_
      refine w_nx (pc' := 51) rfl ?_
      refine w_getR rfl rfl (hT) (congrArg va_rf (h2)) rfl ?_
      refine w_nx (pc' := 56) rfl ?_
      refine w_ald rfl (fun _ _ _ _ _ _ => rfl) (h3) rfl (rfl) (by omega) (by decide) rfl rfl ?_
      refine w_top (hval) ?_
      refine w_nx (pc' := 58) (S' := .int ((-1)) :: _) rfl ?_
      refine w_nx (pc' := 59) rfl ?_
      refine w_nx (pc' := 60) rfl ?_
      refine w_ifne rfl rfl rfl (fun hc => ?_) (fun hc => ?_)
      · have hns : ¬ sb s (l.getD k 0) := fun g => hc ((sb_ask (by omega)).mpr g)
        have hpt : p (l.getD k 0) = true := (hp _).mpr hns
        have hf' : (l.take (k + 1)).filter p = (F1 ++ F2) ++ [l.getD k 0] := by
          rw [htk, List.filter_append, hf, List.filter_cons_of_pos hpt]
          rfl
        refine w_nx (pc' := 67) rfl ?_
        refine w_getR rfl rfl (hT) (congrArg va_rf (h2)) rfl ?_
        refine w_nx (pc' := 71) rfl ?_
        refine w_iinc rfl rfl (nI_1 _) rfl rfl ?_
        refine w_nx (pc' := 75) rfl ?_
        refine w_getR rfl rfl (hT) (congrArg va_rf (h2)) rfl ?_
        refine w_nx (pc' := 80) rfl ?_
        refine w_ald rfl (fun _ _ _ _ _ _ => rfl) (h3) rfl (rfl) (by omega) (by decide) rfl rfl ?_
        refine w_top (hval) ?_
        refine w_ast (f := fun x => x) rfl (fun _ _ _ _ _ _ => rfl) (h3) (by omega) (rfl) (by omega) (by decide) rfl ?_
        refine w_nx (pc' := 83) rfl ?_
        refine w_getR rfl rfl (hT) (congrArg va_rf (h2)) rfl ?_
        refine w_nx (pc' := 88) rfl ?_
        refine w_ald rfl (fun _ _ _ _ _ _ => rfl) (h3) rfl (rfl) (by omega) (by decide) rfl rfl ?_
        refine w_nx (pc' := 90) rfl ?_
        have hrest : ∀ i, k + 1 ≤ i → i < l.length → gI (sI z (r + 1) (F1 ++ F2).length (nI (l.getD k 0))) (r + 1) i = nI (l.getD i 0) := fun i hi hj => by
          rw [gI_nk (by omega)]
          exact hB i (by omega) hj
        have hsrt : ∀ a ∈ F1 ++ F2, a < l.getD k 0 := fun a ha => by
          rw [← hf] at ha
          have ha' := (List.mem_filter.mp ha).1
          have hP : (l.take (k + 1)).Pairwise (· < ·) := hl.1.sublist (List.take_sublist _ _)
          rw [htk, List.pairwise_append] at hP
          exact hP.2.2 a ha' _ (List.mem_singleton.mpr rfl)
        have hnow : ∀ i, i < (F1 ++ F2).length + 1 → gI (sI z (r + 1) (F1 ++ F2).length (nI (l.getD k 0))) (r + 1) i = nI (((F1 ++ F2) ++ [l.getD k 0]).getD i 0) := fun i hi => by
          rw [gI_sI, if_pos rfl, gd_app (F1 ++ F2)]
          by_cases c : i = (F1 ++ F2).length
          · rw [if_pos c, if_neg (by omega), c, Nat.sub_self]
            rfl
          · rw [if_neg c, if_pos (by omega), hA i (by omega)]
        have hv2 : gI (sI z (r + 1) (F1 ++ F2).length (nI (l.getD k 0))) (r + 1) k = nI (l.getD k 0) := by
          rw [gI_sI, if_pos rfl]
          split
          · rfl
          · exact hval
        refine w_top2 hv2 ?_
        refine w_ncge rfl rfl rfl (rfl) (rfl) (by omega) (by omega) (fun hd => ?_) (fun hd => ?_)
        · refine w_iinc rfl rfl (nI_1 _) rfl rfl ?_
          refine w_nx (pc' := 40) rfl ?_
          have e : (F1 ++ F2).length + 1 = (F1 ++ (F2 ++ [l.getD k 0])).length := by simp only [List.length_append, List.length_cons, List.length_nil]; omega
          rw [e]
          refine w_imp ?_ (ih (k + 1) _ F1 (F2 ++ [l.getD k 0]) (by omega) (rowOk_fr h0 (frI_sI (F := fun _ => True) trivial)) ((gI_ne (by omega)).trans hm) (by rw [hf', List.append_assoc]) hF1 (fun a ha => ?_) (fun i hi => ?_) hrest)
          · intro o z' hq
            exact ⟨hq.1, frI_trans (frI_sI (.inr rfl)) hq.2.1, hq.2.2⟩
          · rcases List.mem_append.mp ha with g | g
            · exact hF2 a g
            · rw [List.mem_singleton.mp g]; exact hd
          · rw [← List.append_assoc]
            exact hnow i (by rw [e]; exact hi)
        · refine w_nx (pc' := 94) rfl ?_
          refine w_nx (pc' := 95) rfl ?_
          refine w_iinc rfl rfl (nI_1 _) rfl rfl ?_
          refine w_nx (pc' := 40) rfl ?_
          have hz : F2 = [] := by
            cases hF : F2 with
            | nil => rfl
            | cons b F =>
              have g1 := hF2 b (by rw [hF]; exact List.mem_cons_self ..)
              have g2 := hsrt b (by rw [hF]; exact List.mem_append.mpr (.inr (List.mem_cons_self ..)))
              omega
          subst hz
          have e : (F1 ++ []).length + 1 = (F1 ++ [l.getD k 0]).length := by simp only [List.length_append, List.length_cons, List.length_nil]
          have e2 : (F1 ++ []).length + 1 = ((F1 ++ [l.getD k 0]) ++ []).length := by simp only [List.length_append, List.length_cons, List.length_nil]
          refine w_loc (L' := [some (.ref r), some (.int (nI s)), some (.int (nI ((F1 ++ [l.getD k 0]) ++ []).length)), some (.int (nI (F1 ++ [l.getD k 0]).length)), some (.int (nI (k + 1)))]) (by rw [← e, ← e2]; rfl) ?_
          refine w_imp ?_ (ih (k + 1) _ (F1 ++ [l.getD k 0]) [] (by omega) (rowOk_fr h0 (frI_sI (F := fun _ => True) trivial)) ((gI_ne (by omega)).trans hm) (by rw [hf', List.append_nil, List.append_nil]) (fun a ha => ?_) (fun a ha => by cases ha) (fun i hi => ?_) hrest)
          · intro o z' hq
            exact ⟨hq.1, frI_trans (frI_sI (.inr rfl)) hq.2.1, hq.2.2⟩
          · rcases List.mem_append.mp ha with g | g
            · exact hF1 a g
            · rw [List.mem_singleton.mp g]; exact hd
          · have := hnow i (by rw [e2]; exact hi)
            rw [List.append_nil] at this ⊢
            rw [List.append_nil]
            exact this
      · have hns : sb s (l.getD k 0) := (sb_ask (by omega)).mp (Classical.not_not.mp hc)
        have hpf : ¬ p (l.getD k 0) = true := fun g => (hp _).mp g hns
        refine w_nx (pc' := 95) rfl ?_
        refine w_iinc rfl rfl (nI_1 _) rfl rfl ?_
        refine w_nx (pc' := 40) rfl ?_
        exact ih (k + 1) z F1 F2 (by omega) h0 hm (by rw [htk, List.filter_append, hf, List.filter_cons_of_neg hpf]; exact List.append_nil _) hF1 hF2 hA (fun i hi hj => hB i (by omega) hj)
theorem x_add1 {d r s : Nat} {l : List Nat} (hl : ok l) (hs : s < 512) (z : aSt) (hr : rowC z r l) : ∀ (n k : Nat), k + n = l.length → (∀ i, i < k → ¬ sb (l.getD i 0) s) →
    wR (aEx d) aM_X4_add (fun o z' => o = .inl none ∧ frI (rF r) z z' ∧ isRow z' r (fun x => up l x ∨ sb s x)) 7 [some (.ref r), some (.int (nI s)), some (.int (nI 0)), some (.int (nI 0)), some (.int (nI k))] [] z := by
  intro n
  have hlen := ok_len hl
  obtain ⟨h0, hm, hA⟩ := hr
  have hh := h0
  obtain ⟨h1, h2, h3, h4⟩ := hh
  have hT : (gT z r).1 = 4 := by rw [h1]
  induction n with
  | zero =>
    intro k hk hno
    refine w_nx (pc' := 9) rfl ?_
    refine w_nx (pc' := 10) rfl ?_
    refine w_getI rfl rfl (hT) rfl rfl ?_
    refine w_top (hm) ?_
    refine w_ncge rfl rfl rfl (rfl) (rfl) (by omega) (by omega) (fun hb => ?_) (fun hb => ?_)
    · refine w_nx (pc' := 38) (S' := .int (nI 0) :: _) rfl ?_
      refine w_nx (pc' := 40) rfl ?_
      have hn : ¬ up l s := by
        rintro ⟨t, ht, hts⟩
        obtain ⟨i, hi, e⟩ := List.getElem_of_mem ht
        refine hno i (by omega) ?_
        rw [List.getD_eq_getElem?_getD, List.getElem?_eq_getElem hi]
        show sb l[i] s
        rw [e]
        exact hts
      exact x_add2 (d := d) (p := fun a => decide (¬ s &&& a = s)) hl hs hn (fun a => decide_eq_true_iff) l.length 0 z [] [] (by omega) h0 hm rfl (fun _ h => by cases h) (fun _ h => by cases h) (fun i hi => by cases hi) (fun i _ hi => hA i hi)
    · omega
  | succ n ih =>
    intro k hk hno
    have hkl : k < l.length := by omega
    have hmem : l.getD k 0 ∈ l := by
      rw [List.getD_eq_getElem?_getD, List.getElem?_eq_getElem hkl]
      exact List.getElem_mem _
    have hlt := hl.2.2 _ hmem
    refine w_nx (pc' := 9) rfl ?_
    refine w_nx (pc' := 10) rfl ?_
    refine w_getI rfl rfl (hT) rfl rfl ?_
    refine w_top (hm) ?_
    refine w_ncge rfl rfl rfl (rfl) (rfl) (by omega) (by omega) (fun hb => ?_) (fun hb => ?_)
    · omega
    · refine w_nx (pc' := 17) rfl ?_
      refine w_getR rfl rfl (hT) (congrArg va_rf (h2)) rfl ?_
      refine w_nx (pc' := 22) rfl ?_
      refine w_ald rfl (fun _ _ _ _ _ _ => rfl) (h3) rfl (rfl) (by omega) (by decide) rfl rfl ?_
      refine w_top (hA k hkl) ?_
      refine w_nx (pc' := 24) rfl ?_
      refine w_nx (pc' := 25) (S' := .int ((-1)) :: _) rfl ?_
      refine w_nx (pc' := 26) rfl ?_
      refine w_nx (pc' := 27) rfl ?_
      refine w_ifne rfl rfl rfl (fun hc => ?_) (fun hc => ?_)
      · refine w_iinc rfl rfl (nI_1 _) rfl rfl ?_
        refine w_nx (pc' := 7) rfl ?_
        refine ih (k + 1) (by omega) (fun i hi => ?_)
        by_cases c : i = k
        · rw [c]
          exact fun g => hc ((sb_ask (by omega)).mpr g)
        · exact hno i (by omega)
      · have g : sb (l.getD k 0) s := (sb_ask (by omega)).mp (Classical.not_not.mp hc)
        exact w_fin rfl (⟨rfl, frI_refl z, l, ⟨h0, hm, hA⟩, hl, fun x => (up_in ⟨_, hmem, g⟩).symm⟩)
theorem x_add {d r s : Nat} {z : aSt} {U : Nat → Prop} (h : isRow z r U) (hs : s < 512) : aW (d + 1) 70 [.ref r, .int (nI s)] z (fun o z' => o = .inl none ∧ frI (rF r) z z' ∧ isRow z' r (fun x => U x ∨ sb s x)) := by
  obtain ⟨l, a, b, c⟩ := h
  refine w_of (k := 70) (m := aM_X4_add) rfl rfl ?_
  refine w_nx (pc' := 1) (S' := .int (nI 0) :: _) rfl ?_
  refine w_nx (pc' := 2) rfl ?_
  refine w_nx (pc' := 3) (S' := .int (nI 0) :: _) rfl ?_
  refine w_nx (pc' := 4) rfl ?_
  refine w_nx (pc' := 5) (S' := .int (nI 0) :: _) rfl ?_
  refine w_nx (pc' := 7) rfl ?_
  refine w_imp ?_ (x_add1 b hs z a l.length 0 (by omega) (fun i hi => by omega))
  rintro o z' ⟨q1, q2, q3⟩
  exact ⟨q1, q2, isRow_iff q3 fun x => by rw [c x]⟩
