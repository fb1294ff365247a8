/-! Row.or, and, same, copy -/
set_option maxRecDepth 100000
theorem take_get {l : List Nat} {k : Nat} (h : k < l.length) : l.take (k + 1) = l.take k ++ [l.getD k 0] := by
  rw [List.take_succ, List.getD_eq_getElem?_getD, List.getElem?_eq_getElem h]
  rfl
theorem get_mem {l : List Nat} {k : Nat} (h : k < l.length) : l.getD k 0 ∈ l := by
  rw [List.getD_eq_getElem?_getD, List.getElem?_eq_getElem h]
  exact List.getElem_mem _
theorem up_app {l l' : List Nat} {x : Nat} : up (l ++ l') x ↔ up l x ∨ up l' x := by
  constructor
  · rintro ⟨t, ht, h⟩
    rcases List.mem_append.mp ht with g | g
    · exact .inl ⟨t, g, h⟩
    · exact .inr ⟨t, g, h⟩
  · rintro (⟨t, ht, h⟩ | ⟨t, ht, h⟩)
    · exact ⟨t, List.mem_append.mpr (.inl ht), h⟩
    · exact ⟨t, List.mem_append.mpr (.inr ht), h⟩
theorem up_take {l : List Nat} {k x : Nat} (h : k < l.length) : up (l.take (k + 1)) x ↔ up (l.take k) x ∨ sb (l.getD k 0) x := by
  rw [take_get h, up_app, up_one]
theorem or_lt {a b : Nat} (ha : a < 512) (hb : b < 512) : a ||| b < 512 := Nat.or_lt_two_pow (n := 9) ha hb
theorem x_or1 {d r q : Nat} {z0 : aSt} {U : Nat → Prop} {l : List Nat} (hl : ok l) (hq0 : rowC z0 q l) (hne : r ≠ q) : ∀ (n k : Nat) (z : aSt), k + n = l.length → frI (rF r) z0 z → isRow z r (fun x => U x ∨ up (l.take k) x) →
    wR (aEx (d + 1)) aM_X4_or (fun o z' => o = .inl none ∧ frI (rF r) z0 z' ∧ isRow z' r (fun x => U x ∨ up l x)) 2 [some (.ref r), some (.ref q), some (.int (nI k))] [] z := by
  intro n
  have hlen := ok_len hl
  induction n with
  | zero =>
    intro k z hk hf hr
    have hoff := rF_off (rowOk_fr hq0.1 hf) (isRow_ok hr) (Ne.symm hne)
    obtain ⟨hqo, hqm, hqA⟩ := rowC_fr hq0 hf hoff.1 hoff.2
    have hT1 : (gT z q).1 = 4 := by rw [hqo.1]
    refine w_nx (pc' := 3) rfl ?_
    refine w_nx (pc' := 4) rfl ?_
    refine w_getI rfl rfl (hT1) rfl rfl ?_
    refine w_top (hqm) ?_
    refine w_ncge rfl rfl rfl (rfl) (rfl) (by omega) (by omega) (fun hb => ?_) (fun hb => ?_)
    · have e : l.take k = l := List.take_of_length_le (by omega)
      rw [e] at hr
      exact w_fin rfl (⟨rfl, hf, hr⟩)
    · omega
  | succ n ih =>
    intro k z hk hf hr
    have hoff := rF_off (rowOk_fr hq0.1 hf) (isRow_ok hr) (Ne.symm hne)
    obtain ⟨hqo, hqm, hqA⟩ := rowC_fr hq0 hf hoff.1 hoff.2
    have hT1 : (gT z q).1 = 4 := by rw [hqo.1]
    have hkl : k < l.length := by omega
    have hlt := hl.2.2 _ (get_mem hkl)
    refine w_nx (pc' := 3) rfl ?_
    refine w_nx (pc' := 4) rfl ?_
    refine w_getI rfl rfl (hT1) rfl rfl ?_
    refine w_top (hqm) ?_
    refine w_ncge rfl rfl rfl (rfl) (rfl) (by omega) (by omega) (fun hb => ?_) (fun hb => ?_)
    · omega
    · refine w_nx (pc' := 11) rfl ?_
      refine w_nx (pc' := 12) rfl ?_
      refine w_getR rfl rfl (hT1) (congrArg va_rf (hqo.2.1)) rfl ?_
      refine w_nx (pc' := 16) rfl ?_
      refine w_ald rfl (fun _ _ _ _ _ _ => rfl) (hqo.2.2.1) rfl (rfl) (by omega) (by decide) rfl rfl ?_
      refine w_top (hqA k hkl) ?_
      have hT0 : (gT z r).1 = 4 := by rw [(isRow_ok hr).1]
      obtain ⟨o, z1, e, q1, q2, q3⟩ := x_add (d := d) hr hlt
      subst q1
      refine w_cal (pc' := 20) rfl (a_cv0 rfl rfl rfl (hT0) rfl rfl) (e) ?_
      refine w_iinc rfl rfl (nI_1 _) rfl rfl ?_
      refine w_nx (pc' := 2) rfl ?_
      exact ih (k + 1) z1 (by omega) (frI_trans hf q2) (isRow_iff q3 fun x => (by rw [up_take hkl, or_assoc]))
theorem x_or {d r q : Nat} {z : aSt} {U V : Nat → Prop} (hU : isRow z r U) (hV : isRow z q V) (hne : r ≠ q) : aW (d + 2) 71 [.ref r, .ref q] z (fun o z' => o = .inl none ∧ frI (rF r) z z' ∧ isRow z' r (fun x => U x ∨ V x)) := by
  obtain ⟨l, h1, h2, h3⟩ := hV
  refine w_of (k := 71) (m := aM_X4_or) rfl rfl ?_
  refine w_nx (pc' := 1) (S' := .int (nI 0) :: _) rfl ?_
  refine w_nx (pc' := 2) rfl ?_
  refine w_imp ?_ (x_or1 (U := U) h2 h1 hne l.length 0 z (by omega) (frI_refl z) (isRow_iff hU fun x => ⟨fun h => h.elim id fun h => absurd h up_nil, .inl⟩))
  rintro o z' ⟨g1, g2, g3⟩
  exact ⟨g1, g2, isRow_iff g3 fun x => (by rw [h3 x])⟩
theorem x_and2 {d r q p : Nat} {z0 : aSt} {la lb : List Nat} (hla : ok la) (hlb : ok lb) (hq0 : rowC z0 q la) (hp0 : rowC z0 p lb) (hrq : r ≠ q) (hrp : r ≠ p) {Q : aRes → aSt → Prop} {i : Nat} (hi : i < la.length)
    (next : ∀ z, frI (rF r) z0 z → isRow z r (fun x => up (la.take (i + 1)) x ∧ up lb x) → wR (aEx (d + 1)) aM_X4_and Q 7 [some (.ref r), some (.ref q), some (.ref p), some (.int (nI (i + 1))), some (.int (nI lb.length))] [] z) : ∀ (n k : Nat) (z : aSt), k + n = lb.length → frI (rF r) z0 z → isRow z r (fun x => (up (la.take i) x ∧ up lb x) ∨ (sb (la.getD i 0) x ∧ up (lb.take k) x)) →
    wR (aEx (d + 1)) aM_X4_and Q 18 [some (.ref r), some (.ref q), some (.ref p), some (.int (nI i)), some (.int (nI k))] [] z := by
  intro n
  have hlena := ok_len hla
  have hlenb := ok_len hlb
  induction n with
  | zero =>
    intro k z hk hf hr
    have hoff := rF_off (rowOk_fr hp0.1 hf) (isRow_ok hr) (Ne.symm hrp)
    obtain ⟨hpo, hpm, hpA⟩ := rowC_fr hp0 hf hoff.1 hoff.2
    have hT2 : (gT z p).1 = 4 := by rw [hpo.1]
    refine w_nx (pc' := 20) rfl ?_
    refine w_nx (pc' := 21) rfl ?_
    refine w_getI rfl rfl (hT2) rfl rfl ?_
    refine w_top (hpm) ?_
    refine w_ncge rfl rfl rfl (rfl) (rfl) (by omega) (by omega) (fun hb => ?_) (fun hb => ?_)
    · refine w_iinc rfl rfl (nI_1 _) rfl rfl ?_
      refine w_nx (pc' := 7) rfl ?_
      have e : lb.take k = lb := List.take_of_length_le (by omega)
      have e2 : k = lb.length := by omega
      rw [e] at hr
      rw [e2]
      exact next z hf (isRow_iff hr fun x => (by rw [up_take hi, or_and_right]))
    · omega
  | succ n ih =>
    intro k z hk hf hr
    have hoff := rF_off (rowOk_fr hp0.1 hf) (isRow_ok hr) (Ne.symm hrp)
    obtain ⟨hpo, hpm, hpA⟩ := rowC_fr hp0 hf hoff.1 hoff.2
    have hoff2 := rF_off (rowOk_fr hq0.1 hf) (isRow_ok hr) (Ne.symm hrq)
    obtain ⟨hqo, hqm, hqA⟩ := rowC_fr hq0 hf hoff2.1 hoff2.2
    have hT1 : (gT z q).1 = 4 := by rw [hqo.1]
    have hT2 : (gT z p).1 = 4 := by rw [hpo.1]
    have hkl : k < lb.length := by omega
    have hlta := hla.2.2 _ (get_mem hi)
    have hltb := hlb.2.2 _ (get_mem hkl)
    refine w_nx (pc' := 20) rfl ?_
    refine w_nx (pc' := 21) rfl ?_
    refine w_getI rfl rfl (hT2) rfl rfl ?_
    refine w_top (hpm) ?_
    refine w_ncge rfl rfl rfl (rfl) (rfl) (by omega) (by omega) (fun hb => ?_) (fun hb => ?_)
    · omega
    · refine w_nx (pc' := 28) rfl ?_
      refine w_nx (pc' := 29) rfl ?_
      refine w_getR rfl rfl (hT1) (congrArg va_rf (hqo.2.1)) rfl ?_
      refine w_nx (pc' := 33) rfl ?_
      refine w_ald rfl (fun _ _ _ _ _ _ => rfl) (hqo.2.2.1) rfl (rfl) (by omega) (by decide) rfl rfl ?_
      refine w_top (hqA i hi) ?_
      refine w_nx (pc' := 35) rfl ?_
      refine w_getR rfl rfl (hT2) (congrArg va_rf (hpo.2.1)) rfl ?_
      refine w_nx (pc' := 40) rfl ?_
      refine w_ald rfl (fun _ _ _ _ _ _ => rfl) (hpo.2.2.1) rfl (rfl) (by omega) (by decide) rfl rfl ?_
      refine w_top (hpA k hkl) ?_
      refine w_nx (pc' := 42) rfl ?_
      refine w_top (nI_or _ _) ?_
      have hT0 : (gT z r).1 = 4 := by rw [(isRow_ok hr).1]
      obtain ⟨o, z1, e, q1, q2, q3⟩ := x_add (d := d) hr (or_lt hlta hltb)
      subst q1
      refine w_cal (pc' := 45) rfl (a_cv0 rfl rfl rfl (hT0) rfl rfl) (e) ?_
      refine w_iinc rfl rfl (nI_1 _) rfl rfl ?_
      refine w_nx (pc' := 18) rfl ?_
      refine ih (k + 1) z1 (by omega) (frI_trans hf q2) (isRow_iff q3 fun x => ?_)
      rw [up_take hkl, sb_or, and_or_left, or_assoc]
theorem x_and1 {d r q p : Nat} {z0 : aSt} {la lb : List Nat} (hla : ok la) (hlb : ok lb) (hq0 : rowC z0 q la) (hp0 : rowC z0 p lb) (hrq : r ≠ q) (hrp : r ≠ p) : ∀ (n i : Nat) (v : Option Value) (z : aSt), i + n = la.length → frI (rF r) z0 z → isRow z r (fun x => up (la.take i) x ∧ up lb x) →
    wR (aEx (d + 1)) aM_X4_and (fun o z' => o = .inl none ∧ frI (rF r) z0 z' ∧ isRow z' r (fun x => up la x ∧ up lb x)) 7 [some (.ref r), some (.ref q), some (.ref p), some (.int (nI i)), v] [] z := by
  intro n
  have hlena := ok_len hla
  have hlenb := ok_len hlb
  induction n with
  | zero =>
    intro i v z hk hf hr
    have hoff2 := rF_off (rowOk_fr hq0.1 hf) (isRow_ok hr) (Ne.symm hrq)
    obtain ⟨hqo, hqm, hqA⟩ := rowC_fr hq0 hf hoff2.1 hoff2.2
    have hT1 : (gT z q).1 = 4 := by rw [hqo.1]
    refine w_nx (pc' := 8) rfl ?_
    refine w_nx (pc' := 9) rfl ?_
    refine w_getI rfl rfl (hT1) rfl rfl ?_
    refine w_top (hqm) ?_
    refine w_ncge rfl rfl rfl (rfl) (rfl) (by omega) (by omega) (fun hb => ?_) (fun hb => ?_)
    · have e : la.take i = la := List.take_of_length_le (by omega)
      rw [e] at hr
      exact w_fin rfl (⟨rfl, hf, hr⟩)
    · omega
  | succ n ih =>
    intro i v z hk hf hr
    have hoff2 := rF_off (rowOk_fr hq0.1 hf) (isRow_ok hr) (Ne.symm hrq)
    obtain ⟨hqo, hqm, hqA⟩ := rowC_fr hq0 hf hoff2.1 hoff2.2
    have hT1 : (gT z q).1 = 4 := by rw [hqo.1]
    refine w_nx (pc' := 8) rfl ?_
    refine w_nx (pc' := 9) rfl ?_
    refine w_getI rfl rfl (hT1) rfl rfl ?_
    refine w_top (hqm) ?_
    refine w_ncge rfl rfl rfl (rfl) (rfl) (by omega) (by omega) (fun hb => ?_) (fun hb => ?_)
    · omega
    · refine w_nx (pc' := 16) (S' := .int (nI 0) :: _) rfl ?_
      refine w_nx (pc' := 18) rfl ?_
      refine x_and2 hla hlb hq0 hp0 hrq hrp hb (fun z' hf' hr' => ih (i + 1) _ z' (by omega) hf' hr') lb.length 0 z (by omega) hf (isRow_iff hr fun x => ⟨fun h => h.elim id fun h => absurd h.2 up_nil, .inl⟩)
theorem x_and {d r q p : Nat} {z : aSt} {U V : Nat → Prop} (hr : rowOk z r) (hU : isRow z q U) (hV : isRow z p V) (hrq : r ≠ q) (hrp : r ≠ p) : aW (d + 2) 69 [.ref r, .ref q, .ref p] z (fun o z' => o = .inl none ∧ frI (rF r) z z' ∧ isRow z' r (fun x => U x ∧ V x)) := by
  obtain ⟨la, a1, a2, a3⟩ := hU
  obtain ⟨lb, b1, b2, b3⟩ := hV
  have hT : (gT z r).1 = 4 := by rw [hr.1]
  have hg := hr.2.2.2
  have f0 : frI (rF r) z (sI z r 1 (nI 0)) := frI_sI (.inl rfl)
  refine w_of (k := 69) (m := aM_X4_and) rfl rfl ?_
  refine w_nx (pc' := 1) rfl ?_
  refine w_nx (pc' := 2) (S' := .int (nI 0) :: _) rfl ?_
  refine w_put rfl rfl (hT) (by omega) rfl rfl rfl ?_
  refine w_nx (pc' := 6) (S' := .int (nI 0) :: _) rfl ?_
  refine w_nx (pc' := 7) rfl ?_
  refine w_imp ?_ (x_and1 a2 b2 a1 b1 hrq hrp la.length 0 none _ (by omega) f0 ⟨[], ⟨rowOk_fr hr f0, gI_same .., fun i hi => (by cases hi)⟩, ok_nil, fun x => ⟨fun h => absurd h.1 up_nil, fun h => absurd h up_nil⟩⟩)
  rintro o z' ⟨g1, g2, g3⟩
  exact ⟨g1, g2, isRow_iff g3 fun x => (by rw [a3 x, b3 x])⟩
