/-! Row.same, copy -/
set_option maxRecDepth 100000
theorem l_ext {l l' : List Nat} (h : l.length = l'.length) (g : ∀ i, i < l.length → l.getD i 0 = l'.getD i 0) : l = l' := by
  apply List.ext_getElem h
  intro i h1 h2
  have := g i h1
  rwa [List.getD_eq_getElem?_getD, List.getD_eq_getElem?_getD, List.getElem?_eq_getElem h1, List.getElem?_eq_getElem h2] at this
theorem x_same1 {d r q : Nat} {z : aSt} {l l' : List Nat} (hl : ok l) (hl' : ok l') (hr : rowC z r l) (hq : rowC z q l') : ∀ (n k : Nat) (v : Int32), k + n = l.length → (v = nI 1 ∧ l.length = l'.length ∧ (∀ i, i < k → l.getD i 0 = l'.getD i 0) ∨ v = nI 0 ∧ l ≠ l') →
    wR (aEx d) aM_X4_same (fun o z' => z' = z ∧ (o = .inl (some (.int 1)) ∧ l = l' ∨ o = .inl (some (.int 0)) ∧ l ≠ l')) 19 [some (.ref r), some (.ref q), some (.int v), some (.int (nI k))] [] z := by
  intro n
  have hlen := ok_len hl
  have hlen' := ok_len hl'
  obtain ⟨ho, hm, hA⟩ := hr
  obtain ⟨ho', hm', hA'⟩ := hq
  have hT : (gT z r).1 = 4 := by rw [ho.1]
  have hT1 : (gT z q).1 = 4 := by rw [ho'.1]
  induction n with
  | zero =>
    intro k v hk hv
    refine w_nx (pc' := 20) rfl ?_
    refine w_nx (pc' := 21) rfl ?_
    refine w_getI rfl rfl (hT) rfl rfl ?_
    refine w_top (hm) ?_
    refine w_ncge rfl rfl rfl (rfl) (rfl) (by omega) (by omega) (fun hb => ?_) (fun hb => ?_)
    · refine w_nx (pc' := 59) rfl ?_
      rcases hv with ⟨e, e1, e2⟩ | ⟨e, e1⟩
      · subst e
        exact w_fin rfl (⟨rfl, .inl ⟨rfl, l_ext e1 (fun i hi => e2 i (by omega))⟩⟩)
      · subst e
        exact w_fin rfl (⟨rfl, .inr ⟨rfl, e1⟩⟩)
    · omega
  | succ n ih =>
    intro k v hk hv
    have hkl : k < l.length := by omega
    refine w_nx (pc' := 20) rfl ?_
    refine w_nx (pc' := 21) rfl ?_
    refine w_getI rfl rfl (hT) rfl rfl ?_
    refine w_top (hm) ?_
    refine w_ncge rfl rfl rfl (rfl) (rfl) (by omega) (by omega) (fun hb => ?_) (fun hb => ?_)
    · omega
    · refine w_nx (pc' := 28) rfl ?_
      refine w_ifeq rfl rfl rfl (fun hc => ?_) (fun hc => ?_)
      · refine w_nx (pc' := 59) rfl ?_
        rcases hv with ⟨e, e1, e2⟩ | ⟨e, e1⟩
        · subst e
          exact absurd hc (by decide)
        · subst e
          exact w_fin rfl (⟨rfl, .inr ⟨rfl, e1⟩⟩)
      · rcases hv with ⟨e, e1, e2⟩ | ⟨e, e1⟩
        · have hlt := hl.2.2 _ (get_mem hkl)
          have hkl' : k < l'.length := by omega
          have hlt' := hl'.2.2 _ (get_mem hkl')
          refine w_nx (pc' := 32) rfl ?_
          refine w_getR rfl rfl (hT) (congrArg va_rf (ho.2.1)) rfl ?_
          refine w_nx (pc' := 36) rfl ?_
          refine w_ald rfl (fun _ _ _ _ _ _ => rfl) (ho.2.2.1) rfl (rfl) (by omega) (by decide) rfl rfl ?_
          refine w_top (hA k hkl) ?_
          refine w_nx (pc' := 38) rfl ?_
          refine w_getR rfl rfl (hT1) (congrArg va_rf (ho'.2.1)) rfl ?_
          refine w_nx (pc' := 42) rfl ?_
          refine w_ald rfl (fun _ _ _ _ _ _ => rfl) (ho'.2.2.1) rfl (rfl) (by omega) (by decide) rfl rfl ?_
          refine w_top (hA' k hkl') ?_
          refine w_ncne rfl rfl rfl (rfl) (rfl) (by omega) (by omega) (fun hd => ?_) (fun hd => ?_)
          · refine w_nx (pc' := 51) (S' := .int (nI 0) :: _) rfl ?_
            refine w_nx (pc' := 52) rfl ?_
            refine w_iinc rfl rfl (nI_1 _) rfl rfl ?_
            refine w_nx (pc' := 19) rfl ?_
            refine ih (k + 1) _ (by omega) (.inr ⟨rfl, fun e => hd (by rw [e])⟩)
          · refine w_nx (pc' := 47) (S' := .int (nI 1) :: _) rfl ?_
            refine w_nx (pc' := 51) rfl ?_
            refine w_nx (pc' := 52) rfl ?_
            refine w_iinc rfl rfl (nI_1 _) rfl rfl ?_
            refine w_nx (pc' := 19) rfl ?_
            refine ih (k + 1) _ (by omega) (.inl ⟨rfl, e1, fun i hi => ?_⟩)
            by_cases c : i = k
            · rw [c, hd]
            · exact e2 i (by omega)
        · subst e
          exact absurd rfl hc
theorem x_same {d r q : Nat} {z : aSt} {U V : Nat → Prop} (hU : isRow z r U) (hV : isRow z q V) : aW (d + 1) 72 [.ref r, .ref q] z (fun o z' => z' = z ∧ (o = .inl (some (.int 1)) ∧ (∀ x, U x ↔ V x) ∨ o = .inl (some (.int 0)) ∧ ¬ ∀ x, U x ↔ V x)) := by
  obtain ⟨l, a1, a2, a3⟩ := hU
  obtain ⟨l', b1, b2, b3⟩ := hV
  have hlen := ok_len a2
  have hlen' := ok_len b2
  have hT : (gT z r).1 = 4 := by rw [a1.1.1]
  have hT1 : (gT z q).1 = 4 := by rw [b1.1.1]
  have key : ∀ (o : aRes) (z' : aSt), (z' = z ∧ (o = .inl (some (.int 1)) ∧ l = l' ∨ o = .inl (some (.int 0)) ∧ l ≠ l')) → (z' = z ∧ (o = .inl (some (.int 1)) ∧ (∀ x, U x ↔ V x) ∨ o = .inl (some (.int 0)) ∧ ¬ ∀ x, U x ↔ V x)) := by
    rintro o z' ⟨g1, g2⟩
    refine ⟨g1, ?_⟩
    rcases g2 with ⟨g2, g3⟩ | ⟨g2, g3⟩
    · refine .inl ⟨g2, fun x => ?_⟩
      rw [a3, b3, g3]
    · refine .inr ⟨g2, fun h => g3 (ok_ext a2 b2 fun x => ?_)⟩
      rw [← a3, ← b3]
      exact h x
  refine w_of (k := 72) (m := aM_X4_same) rfl rfl ?_
  refine w_nx (pc' := 1) rfl ?_
  refine w_getI rfl rfl (hT) rfl rfl ?_
  refine w_top (a1.2.1) ?_
  refine w_nx (pc' := 5) rfl ?_
  refine w_getI rfl rfl (hT1) rfl rfl ?_
  refine w_top (b1.2.1) ?_
  refine w_ncne rfl rfl rfl (rfl) (rfl) (by omega) (by omega) (fun hb => ?_) (fun hb => ?_)
  · refine w_nx (pc' := 16) (S' := .int (nI 0) :: _) rfl ?_
    refine w_nx (pc' := 17) rfl ?_
    refine w_nx (pc' := 18) (S' := .int (nI 0) :: _) rfl ?_
    refine w_nx (pc' := 19) rfl ?_
    exact w_imp key (x_same1 a2 b2 a1 b1 l.length 0 _ (by omega) (.inr ⟨rfl, fun e => hb (by rw [e])⟩))
  · refine w_nx (pc' := 12) (S' := .int (nI 1) :: _) rfl ?_
    refine w_nx (pc' := 16) rfl ?_
    refine w_nx (pc' := 17) rfl ?_
    refine w_nx (pc' := 18) (S' := .int (nI 0) :: _) rfl ?_
    refine w_nx (pc' := 19) rfl ?_
    exact w_imp key (x_same1 a2 b2 a1 b1 l.length 0 _ (by omega) (.inl ⟨rfl, hb, fun i hi => by omega⟩))
theorem gI_cI (z : aSt) (s sp d dp n a k : Nat) : gI (cI z s sp d dp n) a k = if a = d then (if dp ≤ k ∧ k < dp + n then gI z s (sp + (k - dp)) else gI z a k) else gI z a k := rfl
theorem frI_cI {F : Nat → Prop} {z : aSt} {s sp d dp n : Nat} (h : F d) : frI F z (cI z s sp d dp n) := ⟨rfl, rfl, rfl, rfl, rfl, fun b hb j => (by rw [gI_cI, if_neg (fun e : b = d => hb (e ▸ h))])⟩
theorem x_copy {d r q : Nat} {z : aSt} {U : Nat → Prop} (hr : rowOk z r) (hU : isRow z q U) (hne : r ≠ q) : aW (d + 1) 67 [.ref r, .ref q] z (fun o z' => o = .inl none ∧ frI (rF r) z z' ∧ isRow z' r U) := by
  obtain ⟨l, a1, a2, a3⟩ := hU
  have hlen := ok_len a2
  have hT : (gT z r).1 = 4 := by rw [hr.1]
  have hT1 : (gT z q).1 = 4 := by rw [a1.1.1]
  have hg := hr.2.2.2
  have hoff := rF_off a1.1 hr (Ne.symm hne)
  refine w_of (k := 67) (m := aM_X4_copy) rfl rfl ?_
  refine w_nx (pc' := 1) rfl ?_
  refine w_nx (pc' := 2) rfl ?_
  refine w_getI rfl rfl (hT1) rfl rfl ?_
  refine w_top (a1.2.1) ?_
  refine w_put rfl rfl (hT) (by omega) rfl rfl rfl ?_
  refine w_nx (pc' := 9) rfl ?_
  refine w_getR rfl rfl (hT1) (congrArg va_rf (a1.1.2.1)) rfl ?_
  refine w_nx (pc' := 13) (S' := .int (nI 0) :: _) rfl ?_
  refine w_nx (pc' := 14) rfl ?_
  refine w_getR rfl rfl (hT) (congrArg va_rf (hr.2.1)) rfl ?_
  refine w_nx (pc' := 18) (S' := .int (nI 0) :: _) rfl ?_
  refine w_nx (pc' := 19) rfl ?_
  refine w_getI rfl rfl (hT) rfl rfl ?_
  refine w_top (gI_same ..) ?_
  refine w_acpI (pc' := 25) (sp := 0) (dp := 0) (n := l.length) rfl rfl a1.1.2.2.1 hr.2.2.1 (by omega) rfl rfl rfl rfl (by omega) (by omega) (by decide) (by decide) rfl ?_
  refine w_fin rfl ⟨rfl, frI_trans (frI_sI (.inl rfl)) (frI_cI (.inr rfl)), l, ⟨rowOk_fr (rowOk_fr hr (frI_sI (F := fun _ => True) trivial)) (frI_cI (F := fun _ => True) trivial), ?_, fun i hi => ?_⟩, a2, a3⟩
  · rw [gI_cI, if_neg (by omega), gI_same]
  · rw [gI_cI, if_pos rfl, if_pos (by omega), gI_ne (fun e => hoff.2 (.inl e)), Nat.zero_add, Nat.sub_zero]
    exact a1.2.2 i hi
