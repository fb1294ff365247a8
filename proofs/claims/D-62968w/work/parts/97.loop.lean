/-! TraceWarden: loop, size, output -/
set_option maxRecDepth 100000
/-- rounds of a loop -/
def itr (many : Nat) (out : List (Option Nat)) (tr : List Nat) (b c : Nat) : Nat → Option Nat → Option Nat
  | 0, s => s
  | n + 1, s => itr many out tr b c n (goR many out tr b c s)
theorem itr_none {many : Nat} {out : List (Option Nat)} {tr : List Nat} {b c : Nat} : ∀ n, itr many out tr b c n none = none
  | 0 => rfl
  | n + 1 => by
    show itr many out tr b c n (goR many out tr b c none) = none
    rw [goR_none]
    exact itr_none n
theorem okS_goR {z : aSt} {many : Nat} {out : List (Option Nat)} {tr : List Nat} (hr : monR z many out) (ht : trS z tr) : ∀ c k s, okS many s → k + c ≤ tr.length → okS many (goR many out tr k c s)
  | 0, _, _, h, _ => h
  | c + 1, k, s, h, hk => okS_goR hr ht c (k + 1) _ (okS_go1 hr (ht.2.2 k (by omega)).2) (by omega)
theorem x_loop0 {d : Nat} {y : Int32} {z : aSt} (hw : twS z) (h15 : gI z 100 15 = -1) : aW (d + 1) 30 [.ref 100, .int y] z (fun o z' => o = .inr (100 + gZ z) ∧ z' = aNew z 15 0 6) := by
  have hT : (gT z 100).1 = 0 := by rw [hw.1]
  refine w_of (k := 30) (m := aM_X1_loop) rfl rfl ?_
  refine w_nx (pc' := 1) rfl ?_
  refine w_getI rfl rfl (hT) rfl rfl ?_
  refine w_top (h15) ?_
  refine w_nx (pc' := 5) (S' := .int ((-1)) :: _) rfl ?_
  refine w_icne rfl rfl rfl (fun g => absurd rfl g) (fun _ => ?_)
  exact w_thn rfl ⟨rfl, rfl⟩
theorem x_loopL {d many t b : Nat} {out : List (Option Nat)} {tr : List Nat} {z : aSt} (hw : twS z) (hm : monS z) (hr : monR z many out) (ht : trS z tr) (htt : tr.length = t) (h15 : gI z 100 15 = nI t) (hb : b < t) : ∀ (f k : Nat) (s : Option Nat), f + k = many → okS many s → wR (aEx (d + 1)) aM_X1_loop (fun o z' => z' = z ∧ o = .inl (some (.int (bI (itr many out tr b (t - b) f s).isSome)))) 42 [some (.ref 100), some (.int (nI b)), some (va_rf (nxS s)), some (.int (nI k))] [] z := by
  have hT : (gT z 100).1 = 0 := by rw [hw.1]
  have hT3 : (gT z 263).1 = 5 := by rw [hm.1]
  have h40 := hr.2.1
  have h60 := ht.2.1
  intro f
  induction f with
  | zero =>
    intro k s hk hs
    cases s with
    | none =>
      refine w_nx (pc' := 43) rfl ?_
      refine w_nx (pc' := 44) rfl ?_
      refine w_getR rfl rfl (hT) (congrArg va_rf (hw.2.2.1.2.2.2.2.2.2.2.2.1)) rfl ?_
      refine w_getI rfl rfl (hT3) rfl rfl ?_
      refine w_top (hr.1) ?_
      refine w_ncge rfl rfl rfl (rfl) (rfl) (by omega) (by omega) (fun hb2 => ?_) (fun hb2 => ?_)
      · refine w_nx (pc' := 75) rfl ?_
        refine w_inull (u := none) rfl rfl rfl (fun _ => ?_) (fun _ h => by cases h)
        refine w_nx (pc' := 83) (S' := .int (nI 0) :: _) rfl ?_
        exact w_fin rfl ⟨rfl, rfl⟩
      · omega
    | some j =>
      refine w_nx (pc' := 43) rfl ?_
      refine w_nx (pc' := 44) rfl ?_
      refine w_getR rfl rfl (hT) (congrArg va_rf (hw.2.2.1.2.2.2.2.2.2.2.2.1)) rfl ?_
      refine w_getI rfl rfl (hT3) rfl rfl ?_
      refine w_top (hr.1) ?_
      refine w_ncge rfl rfl rfl (rfl) (rfl) (by omega) (by omega) (fun hb2 => ?_) (fun hb2 => ?_)
      · refine w_nx (pc' := 75) rfl ?_
        refine w_inull (u := some (265 + 2 * j)) rfl rfl rfl (fun h => by cases h) (fun _ _ => ?_)
        refine w_nx (pc' := 79) (S' := .int (nI 1) :: _) rfl ?_
        refine w_nx (pc' := 83) rfl ?_
        exact w_fin rfl ⟨rfl, rfl⟩
      · omega
  | succ f ih =>
    intro k s hk hs
    cases s with
    | none =>
      rw [itr_none]
      refine w_nx (pc' := 43) rfl ?_
      refine w_nx (pc' := 44) rfl ?_
      refine w_getR rfl rfl (hT) (congrArg va_rf (hw.2.2.1.2.2.2.2.2.2.2.2.1)) rfl ?_
      refine w_getI rfl rfl (hT3) rfl rfl ?_
      refine w_top (hr.1) ?_
      refine w_ncge rfl rfl rfl (rfl) (rfl) (by omega) (by omega) (fun hb2 => ?_) (fun hb2 => ?_)
      · omega
      · refine w_nx (pc' := 54) rfl ?_
        refine w_inull (u := none) rfl rfl rfl (fun _ => ?_) (fun _ h => by cases h)
        refine w_nx (pc' := 75) rfl ?_
        refine w_inull (u := none) rfl rfl rfl (fun _ => ?_) (fun _ h => by cases h)
        refine w_nx (pc' := 83) (S' := .int (nI 0) :: _) rfl ?_
        exact w_fin rfl ⟨rfl, rfl⟩
    | some j =>
      refine w_nx (pc' := 43) rfl ?_
      refine w_nx (pc' := 44) rfl ?_
      refine w_getR rfl rfl (hT) (congrArg va_rf (hw.2.2.1.2.2.2.2.2.2.2.2.1)) rfl ?_
      refine w_getI rfl rfl (hT3) rfl rfl ?_
      refine w_top (hr.1) ?_
      refine w_ncge rfl rfl rfl (rfl) (rfl) (by omega) (by omega) (fun hb2 => ?_) (fun hb2 => ?_)
      · omega
      · refine w_nx (pc' := 54) rfl ?_
        refine w_inull (u := some (265 + 2 * j)) rfl rfl rfl (fun h => by cases h) (fun _ _ => ?_)
        refine w_nx (pc' := 58) rfl ?_
        refine w_nx (pc' := 59) rfl ?_
        refine w_nx (pc' := 60) rfl ?_
        refine w_nx (pc' := 61) rfl ?_
        refine w_getI rfl rfl (hT) rfl rfl ?_
        refine w_top (h15) ?_
        obtain ⟨o, z2, e2, q3, q4⟩ := x_along (d := d) (b := b) (c := t - b) (s := some j) hw hm hr ht (by omega) hs
        subst q4
        rw [q3, show b + (t - b) = t by omega] at e2
        refine w_cal (pc' := 67) rfl (a_cv0 rfl rfl rfl (hT) rfl rfl) (e2) ?_
        have ih' := ih (k + 1) (goR many out tr b (t - b) (some j)) (by omega) (okS_goR hr ht _ _ _ hs (by omega))
        show wR _ _ (fun o z' => z' = z ∧ o = .inl (some (.int (bI (itr many out tr b (t - b) f (goR many out tr b (t - b) (some j))).isSome)))) _ _ _ _
        cases hg : goR many out tr b (t - b) (some j) with
        | none =>
          rw [hg] at ih'
          refine w_nx (pc' := 68) rfl ?_
          refine w_iinc rfl rfl (nI_1 _) rfl rfl ?_
          refine w_nx (pc' := 42) rfl ?_
          exact ih'
        | some i =>
          rw [hg] at ih'
          refine w_nx (pc' := 68) rfl ?_
          refine w_iinc rfl rfl (nI_1 _) rfl rfl ?_
          refine w_nx (pc' := 42) rfl ?_
          exact ih'
theorem x_loop {d many t : Nat} {y : Int32} {out : List (Option Nat)} {tr : List Nat} {z : aSt} {s : Option Nat} (hw : twS z) (hm : monS z) (hr : monR z many out) (ht : trS z tr) (htt : tr.length = t) (h15 : gI z 100 15 = nI t) (h16 : gR z 100 16 = nxS s) (hs : okS many s) : aW (d + 2) 30 [.ref 100, .int y] z (fun o z' => (¬ inR y t ∧ o = .inr (100 + gZ z) ∧ z' = aNew z 17 0 6) ∨ ∃ b, b < t ∧ y = nI b ∧ z' = z ∧ o = .inl (some (.int (bI (itr many out tr b (t - b) many s).isSome)))) := by
  have hT : (gT z 100).1 = 0 := by rw [hw.1]
  have h60 := ht.2.1
  refine w_of (k := 30) (m := aM_X1_loop) rfl rfl ?_
  refine w_nx (pc' := 1) rfl ?_
  refine w_getI rfl rfl (hT) rfl rfl ?_
  refine w_top (h15) ?_
  refine w_nx (pc' := 5) (S' := .int ((-1)) :: _) rfl ?_
  refine w_icne rfl rfl rfl (fun _ => ?_) (fun g => absurd (nI_nm (by omega)) g)
  refine w_nx (pc' := 17) rfl ?_
  refine w_nx (pc' := 18) rfl ?_
  refine w_getI rfl rfl (hT) rfl rfl ?_
  refine w_top (h15) ?_
  obtain ⟨o, z1, e1, q1, ⟨q2, q3⟩ | ⟨q2, q3⟩⟩ := x_within (d := d) (n := t) (x := y) (z := z) (by omega)
  · subst q3
    rw [q1] at e1
    refine w_cal (pc' := 24) rfl (rfl) (e1) ?_
    refine w_ifne rfl rfl rfl (fun _ => ?_) (fun g => absurd (show ¬ nI 1 = 0 by decide) g)
    obtain ⟨b, b1, b2⟩ := q2
    subst b2
    have main := x_loopL (d := d) hw hm hr ht htt h15 b1 many 0 s (Nat.add_zero _) hs
    cases s with
    | none =>
      refine w_nx (pc' := 36) rfl ?_
      refine w_getR rfl rfl (hT) (congrArg va_rf (h16)) rfl ?_
      refine w_nx (pc' := 40) rfl ?_
      refine w_nx (pc' := 41) (S' := .int (nI 0) :: _) rfl ?_
      refine w_nx (pc' := 42) rfl ?_
      exact w_imp (fun o z' h => .inr ⟨b, b1, rfl, h⟩) main
    | some j =>
      refine w_nx (pc' := 36) rfl ?_
      refine w_getR rfl rfl (hT) (congrArg va_rf (h16)) rfl ?_
      refine w_nx (pc' := 40) rfl ?_
      refine w_nx (pc' := 41) (S' := .int (nI 0) :: _) rfl ?_
      refine w_nx (pc' := 42) rfl ?_
      exact w_imp (fun o z' h => .inr ⟨b, b1, rfl, h⟩) main
  · subst q3
    rw [q1] at e1
    refine w_cal (pc' := 24) rfl (rfl) (e1) ?_
    refine w_ifne rfl rfl rfl (fun g => absurd rfl g) (fun _ => ?_)
    exact w_thn rfl (.inl ⟨q2, rfl, rfl⟩)
theorem x_size0 {d : Nat} {x : Int32} {z : aSt} (hw : twS z) (h : gI z 100 11 = -1) : aW (d + 2) 22 [.ref 100, .int x] z (fun o z' => o = .inr (100 + gZ z) ∧ z' = aNew z 15 0 6) := by
  have hT : (gT z 100).1 = 0 := by rw [hw.1]
  refine w_of (k := 22) (m := aM_X1_size) rfl rfl ?_
  refine w_nx (pc' := 1) rfl ?_
  obtain ⟨o, z1, e1, q1, q2⟩ := x_needC0 (d := d) hw h
  subst q1
  rw [q2] at e1
  refine w_thr (a_cv0 rfl rfl rfl (hT) rfl rfl) (e1) rfl ?_
  exact ⟨rfl, rfl⟩
theorem x_size {d : Nat} {m : CM} {x : Int32} {z : aSt} {gs : List Nat} {e c : Nat} (hw : twS z) (hm : monS z) (h11 : gI z 100 11 = nI m.2.1) (hn : m.2.1 ≤ 9) (h12 : gI z 100 12 = nI m.2.2.1) (hP : cirP z m.1 m.2.2.2 gs e c) : aW (d + 20) 22 [.ref 100, .int x] z (fun o z' => (¬ inR x 5 ∧ o = .inr (100 + gZ z) ∧ z' = aNew z 13 0 6) ∨ (∃ j, j < 4 ∧ x = nI j ∧ o = .inl (some (.int (nI (if j = 0 then m.1 else if j = 1 then m.2.1 else if j = 2 then m.2.2.1 else bitsOf m.1)))) ∧ z' = z) ∨ (x = nI 4 ∧ ∃ (gts' : List Tr) (ps' : List Nat) (e' c' : Nat), o = .inl (some (.int (nI gts'.length))) ∧ mkD m.1 m.2.2.2 gts' ps' e' c' z' ∧ mkF z gs e c z' ps' e' c')) := by
  have hT : (gT z 100).1 = 0 := by rw [hw.1]
  have hT3 : (gT z 263).1 = 5 := by rw [hm.1]
  have hX : cirX z m.1 m.2.2.2 := by
    rcases hP with ⟨_, hX, _⟩ | ⟨gts, hD⟩
    · exact hX
    · exact hD.1.1
  have hT5 : (gT z 345).1 = 7 := by rw [hX.2.2.1.1]
  refine w_of (k := 22) (m := aM_X1_size) rfl rfl ?_
  refine w_nx (pc' := 1) rfl ?_
  obtain ⟨o, z1, e1, q1, q2⟩ := x_needC1 (d := d + 18) hw h11 hn
  subst q1
  rw [q2] at e1
  refine w_cal (pc' := 4) rfl (a_cv0 rfl rfl rfl (hT) rfl rfl) (e1) ?_
  refine w_nx (pc' := 5) rfl ?_
  rcases pk_ix x (n := 5) (by decide) with h | h | ⟨j, h1, h2⟩
  · refine w_tswD (t := 74) rfl (.inl ?_) rfl ?_
    · exact Int32.lt_iff_toInt_lt.mp h
    · refine w_thn rfl (.inl ⟨fun ⟨j, h1, h2⟩ => nI_pos (by omega) (h2 ▸ h), rfl, rfl⟩)
  · have h5 : (5 : Int) ≤ x.toInt := Int32.le_iff_toInt_le.mp h
    refine w_tswD (t := 74) rfl (.inr (by omega)) rfl ?_
    refine w_thn rfl (.inl ⟨fun ⟨j, h1, h2⟩ => ?_, rfl, rfl⟩)
    subst h2
    exact Int32.not_lt.mpr h ((nI_ltI (by omega) (by decide)).mpr h1)
  · subst h2
    have : j = 0 ∨ j = 1 ∨ j = 2 ∨ j = 3 ∨ j = 4 := by omega
    rcases this with rfl | rfl | rfl | rfl | rfl
    · refine w_nx (pc' := 40) rfl ?_
      refine w_nx (pc' := 41) rfl ?_
      refine w_getR rfl rfl (hT) (congrArg va_rf (hw.2.2.1.2.2.2.2.2.2.2.2.1)) rfl ?_
      refine w_getI rfl rfl (hT3) rfl rfl ?_
      refine w_top (hX.2.1.1) ?_
      exact w_fin rfl (.inr (.inl ⟨0, by decide, rfl, rfl, rfl⟩))
    · refine w_nx (pc' := 48) rfl ?_
      refine w_nx (pc' := 49) rfl ?_
      refine w_getI rfl rfl (hT) rfl rfl ?_
      refine w_top (h11) ?_
      exact w_fin rfl (.inr (.inl ⟨1, by decide, rfl, rfl, rfl⟩))
    · refine w_nx (pc' := 53) rfl ?_
      refine w_nx (pc' := 54) rfl ?_
      refine w_getI rfl rfl (hT) rfl rfl ?_
      refine w_top (h12) ?_
      exact w_fin rfl (.inr (.inl ⟨2, by decide, rfl, rfl, rfl⟩))
    · refine w_nx (pc' := 58) rfl ?_
      refine w_nx (pc' := 59) rfl ?_
      refine w_getR rfl rfl (hT) (congrArg va_rf (hw.2.2.1.2.2.2.2.2.2.2.2.2.1)) rfl ?_
      refine w_getI rfl rfl (hT5) rfl rfl ?_
      refine w_top (hX.2.2.2.2.1) ?_
      exact w_fin rfl (.inr (.inl ⟨3, by decide, rfl, rfl, rfl⟩))
    · refine w_nx (pc' := 66) rfl ?_
      refine w_nx (pc' := 67) rfl ?_
      refine w_getR rfl rfl (hT) (congrArg va_rf (hw.2.2.1.2.2.2.2.2.2.2.2.2.1)) rfl ?_
      obtain ⟨o, z1, e1, gts', ps', e', c', q1, q2, q3⟩ := x_csize (d := d) hP
      subst q1
      refine w_cal (pc' := 73) rfl (a_cv0 rfl rfl rfl (hT5) rfl rfl) (e1) ?_
      exact w_fin rfl (.inr (.inr ⟨rfl, gts', ps', e', c', rfl, q2, q3⟩))
theorem x_out0 {d : Nat} {x y w : Int32} {z : aSt} (hw : twS z) (h : gI z 100 11 = -1) : aW (d + 2) 26 [.ref 100, .int x, .int y, .int w] z (fun o z' => o = .inr (100 + gZ z) ∧ z' = aNew z 15 0 6) := by
  have hT : (gT z 100).1 = 0 := by rw [hw.1]
  refine w_of (k := 26) (m := aM_X1_output) rfl rfl ?_
  refine w_nx (pc' := 1) rfl ?_
  obtain ⟨o, z1, e1, q1, q2⟩ := x_needC0 (d := d) hw h
  subst q1
  rw [q2] at e1
  refine w_thr (a_cv0 rfl rfl rfl (hT) rfl rfl) (e1) rfl ?_
  exact ⟨rfl, rfl⟩
theorem x_out {d : Nat} {m : CM} {x y w : Int32} {z : aSt} {gs : List Nat} {e c : Nat} (hw : twS z) (h11 : gI z 100 11 = nI m.2.1) (hn : m.2.1 ≤ 9) (hP : cirP z m.1 m.2.2.2 gs e c) : aW (d + 20) 26 [.ref 100, .int x, .int y, .int w] z (fun r z' => (¬ (inR x (bitsOf m.1 + 1) ∧ inR y (2 ^ bitsOf m.1) ∧ inR w 8) ∧ r = .inr (100 + gZ z) ∧ z' = aNew z 17 0 6) ∨ (∃ o cd lt, o ≤ bitsOf m.1 ∧ cd < 2 ^ bitsOf m.1 ∧ lt < 8 ∧ x = nI o ∧ y = nI cd ∧ w = nI lt ∧ r = .inl (some (.int (bI (wnt m.1 m.2.2.2 o cd lt)))) ∧ ∃ (gts' : List Tr) (ps' : List Nat) (e' c' : Nat), mkD m.1 m.2.2.2 gts' ps' e' c' z' ∧ mkF z gs e c z' ps' e' c')) := by
  have hT : (gT z 100).1 = 0 := by rw [hw.1]
  have hX : cirX z m.1 m.2.2.2 := by
    rcases hP with ⟨_, hX, _⟩ | ⟨gts, hD⟩
    · exact hX
    · exact hD.1.1
  have hT5 : (gT z 345).1 = 7 := by rw [hX.2.2.1.1]
  have hb := bits_rng m.1 hX.2.1.2.1
  have hp6 : 2 ^ bitsOf m.1 ≤ 2 ^ 6 := Nat.pow_le_pow_right (by decide) hb.2.1
  refine w_of (k := 26) (m := aM_X1_output) rfl rfl ?_
  refine w_nx (pc' := 1) rfl ?_
  obtain ⟨o, z1, e1, q1, q2⟩ := x_needC1 (d := d + 18) hw h11 hn
  subst q1
  rw [q2] at e1
  refine w_cal (pc' := 4) rfl (a_cv0 rfl rfl rfl (hT) rfl rfl) (e1) ?_
  have bad : ¬ (inR x (bitsOf m.1 + 1) ∧ inR y (2 ^ bitsOf m.1) ∧ inR w 8) → wR (aEx (d + 19)) aM_X1_output (fun r z' => (¬ (inR x (bitsOf m.1 + 1) ∧ inR y (2 ^ bitsOf m.1) ∧ inR w 8) ∧ r = .inr (100 + gZ z) ∧ z' = aNew z 17 0 6) ∨ (∃ o cd lt, o ≤ bitsOf m.1 ∧ cd < 2 ^ bitsOf m.1 ∧ lt < 8 ∧ x = nI o ∧ y = nI cd ∧ w = nI lt ∧ r = .inl (some (.int (bI (wnt m.1 m.2.2.2 o cd lt)))) ∧ ∃ (gts' : List Tr) (ps' : List Nat) (e' c' : Nat), mkD m.1 m.2.2.2 gts' ps' e' c' z' ∧ mkF z gs e c z' ps' e' c')) 45 [some (.ref 100), some (.int x), some (.int y), some (.int w)] [] z := fun h => w_thn rfl (.inl ⟨h, rfl, rfl⟩)
  refine w_nx (pc' := 5) rfl ?_
  refine w_nx (pc' := 6) rfl ?_
  refine w_getR rfl rfl (hT) (congrArg va_rf (hw.2.2.1.2.2.2.2.2.2.2.2.2.1)) rfl ?_
  refine w_getI rfl rfl (hT5) rfl rfl ?_
  refine w_top (hX.2.2.2.2.1) ?_
  refine w_nx (pc' := 13) (S' := .int (nI 1) :: _) rfl ?_
  refine w_nx (pc' := 14) rfl ?_
  refine w_top (nI_add _ _) ?_
  obtain ⟨o, z1, e1, q1, ⟨q2, q3⟩ | ⟨q2, q3⟩⟩ := x_within (d := d + 18) (n := bitsOf m.1 + 1) (x := x) (z := z) (by omega)
  · subst q3
    rw [q1] at e1
    refine w_cal (pc' := 17) rfl (rfl) (e1) ?_
    refine w_ifeq rfl rfl rfl (fun g => absurd g (by decide)) (fun _ => ?_)
    have h32 : 1 * 2 ^ bitsOf m.1 < 2 ^ 32 := by omega
    refine w_nx (pc' := 21) rfl ?_
    refine w_nx (pc' := 22) (S' := .int (nI 1) :: _) rfl ?_
    refine w_nx (pc' := 23) rfl ?_
    refine w_getR rfl rfl (hT) (congrArg va_rf (hw.2.2.1.2.2.2.2.2.2.2.2.2.1)) rfl ?_
    refine w_getI rfl rfl (hT5) rfl rfl ?_
    refine w_top (hX.2.2.2.2.1) ?_
    refine w_nx (pc' := 30) (S' := .int (nI 1 <<< (nI (bitsOf m.1) &&& 31)) :: _) rfl ?_
    refine w_top (nI_shl (by omega) h32) ?_
    rw [Nat.one_mul]
    obtain ⟨o, z1, e1, q1, ⟨q4, q3⟩ | ⟨q4, q3⟩⟩ := x_within (d := d + 18) (n := 2 ^ bitsOf m.1) (x := y) (z := z) (by omega)
    · subst q3
      rw [q1] at e1
      refine w_cal (pc' := 33) rfl (rfl) (e1) ?_
      refine w_ifeq rfl rfl rfl (fun g => absurd g (by decide)) (fun _ => ?_)
      refine w_nx (pc' := 37) rfl ?_
      refine w_nx (pc' := 39) (S' := .int (nI 8) :: _) rfl ?_
      obtain ⟨o, z1, e1, q1, ⟨q5, q3⟩ | ⟨q5, q3⟩⟩ := x_within (d := d + 18) (n := 8) (x := w) (z := z) (by decide)
      · subst q3
        rw [q1] at e1
        refine w_cal (pc' := 42) rfl (rfl) (e1) ?_
        refine w_ifne rfl rfl rfl (fun _ => ?_) (fun g => absurd (show ¬ nI 1 = 0 by decide) g)
        obtain ⟨o, o1, o2⟩ := q2
        obtain ⟨cd, c1, c2⟩ := q4
        obtain ⟨lt, l1, l2⟩ := q5
        subst o2 c2 l2
        refine w_nx (pc' := 54) rfl ?_
        refine w_getR rfl rfl (hT) (congrArg va_rf (hw.2.2.1.2.2.2.2.2.2.2.2.2.1)) rfl ?_
        refine w_nx (pc' := 58) rfl ?_
        refine w_nx (pc' := 59) rfl ?_
        refine w_nx (pc' := 60) rfl ?_
        obtain ⟨r, z1, e1, q1, gts', ps', e', c', q2, q3⟩ := x_value (d := d) hP (show o ≤ bitsOf m.1 by omega) l1 c1
        subst q1
        refine w_cal (pc' := 63) rfl (a_cv0 rfl rfl rfl (hT5) rfl rfl) (e1) ?_
        cases hw2 : wnt m.1 m.2.2.2 o cd lt
        · exact w_fin rfl (.inr ⟨o, cd, lt, by omega, c1, l1, rfl, rfl, rfl, by rw [hw2], gts', ps', e', c', q2, q3⟩)
        · exact w_fin rfl (.inr ⟨o, cd, lt, by omega, c1, l1, rfl, rfl, rfl, by rw [hw2], gts', ps', e', c', q2, q3⟩)
      · subst q3
        rw [q1] at e1
        refine w_cal (pc' := 42) rfl (rfl) (e1) ?_
        exact w_ifne rfl rfl rfl (fun g => absurd rfl g) (fun _ => bad fun g => q5 g.2.2)
    · subst q3
      rw [q1] at e1
      refine w_cal (pc' := 33) rfl (rfl) (e1) ?_
      exact w_ifeq rfl rfl rfl (fun _ => bad fun g => q4 g.2.1) (fun g => absurd rfl g)
  · subst q3
    rw [q1] at e1
    refine w_cal (pc' := 17) rfl (rfl) (e1) ?_
    exact w_ifeq rfl rfl rfl (fun _ => bad fun g => q2 g.1) (fun g => absurd rfl g)
