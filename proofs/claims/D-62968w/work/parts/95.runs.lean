/-! TraceWarden: within, numberOf, needCompiled, wipe, fault, time, window, next, begin -/
set_option maxRecDepth 100000
theorem w_tswD {call : aRel} {m : aMi} {Q : aRes → aSt → Prop} {pc t : Nat} {L : List (Option Value)} {S : List Value} {z : aSt} {dflt lo hi : Int} {offs : Array Int} {x : Int32} (ha : aAt m pc = some (.tableswitch dflt lo hi offs)) (hx : x.toInt < lo ∨ hi < x.toInt) (ht : ((pc : Int) + dflt).toNat? = some t) (c : wR call m Q t L S z) : wR call m Q pc L (.int x :: S) z := by
  refine w_nx (L' := L) (S' := S) (z1 := z) ?_ c
  rw [a_nxi ha]
  show a_tsw dflt lo hi offs pc L (.int x :: S) z = _
  unfold a_tsw
  simp only []
  rw [if_pos hx]
  exact a_jpt ht
def inR (x : Int32) (n : Nat) : Prop := ∃ j, j < n ∧ x = nI j
theorem inR_or {x : Int32} {n : Nat} (hn : n < 2 ^ 31) : (¬ x < 0 ∧ x < nI n ∧ inR x n) ∨ ((x < 0 ∨ ¬ x < nI n) ∧ ¬ inR x n) := by
  rcases pk_ix x hn with h | h | ⟨j, h1, h2⟩
  · exact .inr ⟨.inl h, fun ⟨j, h1, h2⟩ => nI_pos (by omega) (h2 ▸ h)⟩
  · refine .inr ⟨.inr (Int32.not_lt.mpr h), fun ⟨j, h1, h2⟩ => ?_⟩
    subst h2
    exact Int32.not_lt.mpr h ((nI_ltI (by omega) hn).mpr h1)
  · subst h2
    exact .inl ⟨nI_pos (by omega), (nI_ltI (by omega) hn).mpr h1, j, h1, rfl⟩
theorem x_within {d n : Nat} {x : Int32} {z : aSt} (hn : n < 2 ^ 31) : aW (d + 1) 15 [.int x, .int (nI n)] z (fun o z' => z' = z ∧ ((inR x n ∧ o = .inl (some (.int (nI 1)))) ∨ (¬ inR x n ∧ o = .inl (some (.int (nI 0)))))) := by
  have e0 : (nI 0 : Int32) = 0 := rfl
  refine w_of (k := 15) (m := aM_X1_within) rfl rfl ?_
  refine w_nx (pc' := 1) rfl ?_
  rcases inR_or (x := x) hn with ⟨h1, h2, h3⟩ | ⟨h1, h3⟩
  · refine w_iflt rfl rfl rfl (fun g => absurd g h1) (fun _ => ?_)
    refine w_nx (pc' := 5) rfl ?_
    refine w_nx (pc' := 6) rfl ?_
    refine w_icge rfl rfl rfl (fun g => absurd h2 (Int32.not_lt.mpr g)) (fun _ => ?_)
    refine w_nx (pc' := 10) (S' := .int (nI 1) :: _) rfl ?_
    refine w_nx (pc' := 14) rfl ?_
    exact w_fin rfl ⟨rfl, .inl ⟨h3, rfl⟩⟩
  · refine w_iflt rfl rfl rfl (fun _ => ?_) (fun g => ?_)
    · refine w_nx (pc' := 14) (S' := .int (nI 0) :: _) rfl ?_
      exact w_fin rfl ⟨rfl, .inr ⟨h3, rfl⟩⟩
    · have h2 : ¬ x < nI n := h1.elim (fun h => absurd h g) id
      refine w_nx (pc' := 5) rfl ?_
      refine w_nx (pc' := 6) rfl ?_
      refine w_icge rfl rfl rfl (fun _ => ?_) (fun g => absurd (Int32.not_lt.mp h2) g)
      refine w_nx (pc' := 14) (S' := .int (nI 0) :: _) rfl ?_
      exact w_fin rfl ⟨rfl, .inr ⟨h3, rfl⟩⟩
theorem x_numO {d : Nat} {s : Option Nat} {z : aSt} (h : ∀ j, s = some j → gT z (265 + 2 * j) = (6, 0) ∧ gI z (265 + 2 * j) 0 = nI j) : aW (d + 1) 25 [va_rf (nxS s)] z (fun o z' => z' = z ∧ o = .inl (some (.int (oI s)))) := by
  cases s with
  | none =>
    refine w_of (k := 25) (m := aM_X1_numberOf) rfl rfl ?_
    refine w_nx (pc' := 1) rfl ?_
    refine w_inon (u := none) rfl rfl rfl (fun b hb => by cases hb) (fun _ => ?_)
    refine w_nx (pc' := 5) (S' := .int ((-1)) :: _) rfl ?_
    refine w_nx (pc' := 12) rfl ?_
    exact w_fin rfl ⟨rfl, rfl⟩
  | some j =>
    obtain ⟨h1, h2⟩ := h j rfl
    have hT : (gT z (265 + 2 * j)).1 = 6 := by rw [h1]
    refine w_of (k := 25) (m := aM_X1_numberOf) rfl rfl ?_
    refine w_nx (pc' := 1) rfl ?_
    refine w_inon (u := some (265 + 2 * j)) rfl rfl rfl (fun b hb => ?_) (fun hb => by cases hb)
    refine w_nx (pc' := 9) rfl ?_
    refine w_getI rfl rfl (hT) rfl rfl ?_
    refine w_top (h2) ?_
    exact w_fin rfl ⟨rfl, rfl⟩
theorem x_needC1 {d n : Nat} {z : aSt} (hw : twS z) (h : gI z 100 11 = nI n) (hn : n ≤ 9) : aW (d + 1) 23 [.ref 100] z (fun o z' => o = .inl none ∧ z' = z) := by
  have hT : (gT z 100).1 = 0 := by rw [hw.1]
  refine w_of (k := 23) (m := aM_X1_needCompiled) rfl rfl ?_
  refine w_nx (pc' := 1) rfl ?_
  refine w_getI rfl rfl (hT) rfl rfl ?_
  refine w_top (h) ?_
  refine w_nx (pc' := 5) (S' := .int ((-1)) :: _) rfl ?_
  refine w_icne rfl rfl rfl (fun _ => ?_) (fun g => absurd (nI_nm (by omega)) g)
  exact w_fin rfl ⟨rfl, rfl⟩
theorem x_needC0 {d : Nat} {z : aSt} (hw : twS z) (h : gI z 100 11 = -1) : aW (d + 1) 23 [.ref 100] z (fun o z' => o = .inr (100 + gZ z) ∧ z' = aNew z 15 0 6) := by
  have hT : (gT z 100).1 = 0 := by rw [hw.1]
  refine w_of (k := 23) (m := aM_X1_needCompiled) rfl rfl ?_
  refine w_nx (pc' := 1) rfl ?_
  refine w_getI rfl rfl (hT) rfl rfl ?_
  refine w_top (h) ?_
  refine w_nx (pc' := 5) (S' := .int ((-1)) :: _) rfl ?_
  refine w_icne rfl rfl rfl (fun g => absurd rfl g) (fun _ => ?_)
  exact w_thn rfl ⟨rfl, rfl⟩
theorem x_wipe {d : Nat} {z : aSt} (hw : twS z) (hT1 : (gT z 101).1 = 1) : aW (d + 1) 9 [.ref 100] z (fun o z' => o = .inl none ∧ z' = sI z 101 1 (nI 0)) := by
  have hT : (gT z 100).1 = 0 := by rw [hw.1]
  refine w_of (k := 9) (m := aM_X1_wipe) rfl rfl ?_
  refine w_nx (pc' := 1) rfl ?_
  refine w_getR rfl rfl (hT) (congrArg va_rf (hw.2.2.1.1)) rfl ?_
  refine w_nx (pc' := 5) (S' := .int (nI 0) :: _) rfl ?_
  refine w_put rfl rfl (hT1) (by omega) rfl rfl rfl ?_
  exact w_fin rfl ⟨rfl, rfl⟩
theorem x_fault {d : Nat} {z : aSt} (hw : twS z) : aW (d + 1) 10 [.ref 100] z (fun o z' => o = .inl (some (.int (gI z 100 13))) ∧ z' = z) := by
  have hT : (gT z 100).1 = 0 := by rw [hw.1]
  refine w_of (k := 10) (m := aM_X1_fault) rfl rfl ?_
  refine w_nx (pc' := 1) rfl ?_
  refine w_getI rfl rfl (hT) rfl rfl ?_
  exact w_fin rfl ⟨rfl, rfl⟩
theorem x_time {d : Nat} {z : aSt} (hw : twS z) : aW (d + 1) 11 [.ref 100] z (fun o z' => o = .inl (some (.int (gI z 100 15))) ∧ z' = z) := by
  have hT : (gT z 100).1 = 0 := by rw [hw.1]
  refine w_of (k := 11) (m := aM_X1_time) rfl rfl ?_
  refine w_nx (pc' := 1) rfl ?_
  refine w_getI rfl rfl (hT) rfl rfl ?_
  exact w_fin rfl ⟨rfl, rfl⟩
theorem x_window {d : Nat} {z : aSt} {tm : Option Nat} (hw : twS z) (h : gI z 100 15 = oI tm) (hs : sml tm) : aW (d + 1) 12 [.ref 100] z (fun o z' => o = .inl (some (.int (if tm = none then -1 else gI z 100 18))) ∧ z' = z) := by
  have hT : (gT z 100).1 = 0 := by rw [hw.1]
  refine w_of (k := 12) (m := aM_X1_window) rfl rfl ?_
  refine w_nx (pc' := 1) rfl ?_
  refine w_getI rfl rfl (hT) rfl rfl ?_
  refine w_top (h) ?_
  refine w_nx (pc' := 5) (S' := .int ((-1)) :: _) rfl ?_
  cases tm with
  | none =>
    refine w_icne rfl rfl rfl (fun g => absurd rfl g) (fun _ => ?_)
    refine w_nx (pc' := 9) (S' := .int ((-1)) :: _) rfl ?_
    refine w_nx (pc' := 16) rfl ?_
    exact w_fin rfl ⟨rfl, rfl⟩
  | some t =>
    refine w_icne rfl rfl rfl (fun _ => ?_) (fun g => absurd (nI_nm (hs t rfl)) g)
    refine w_nx (pc' := 13) rfl ?_
    refine w_getI rfl rfl (hT) rfl rfl ?_
    exact w_fin rfl ⟨rfl, rfl⟩
theorem x_next0 {d : Nat} {x y : Int32} {z : aSt} (hw : twS z) (h : gI z 100 11 = -1) : aW (d + 2) 24 [.ref 100, .int x, .int y] z (fun o z' => o = .inr (100 + gZ z) ∧ z' = aNew z 15 0 6) := by
  have hT : (gT z 100).1 = 0 := by rw [hw.1]
  refine w_of (k := 24) (m := aM_X1_next) rfl rfl ?_
  refine w_nx (pc' := 1) rfl ?_
  obtain ⟨o, z1, e1, q1, q2⟩ := x_needC0 (d := d) hw h
  subst q1
  rw [q2] at e1
  refine w_thr (a_cv0 rfl rfl rfl (hT) rfl rfl) (e1) rfl ?_
  exact ⟨rfl, rfl⟩
theorem x_next {d n many : Nat} {out : List (Option Nat)} {x y : Int32} {z : aSt} (hw : twS z) (hm : monS z) (hr : monR z many out) (h : gI z 100 11 = nI n) (hn : n ≤ 9) : aW (d + 2) 24 [.ref 100, .int x, .int y] z (fun o z' => (∃ s l, s < many ∧ l < 8 ∧ x = nI s ∧ y = nI l ∧ o = .inl (some (.int (oI (nxO many out s l)))) ∧ z' = z) ∨ (¬ (inR x many ∧ inR y 8) ∧ o = .inr (100 + gZ z) ∧ z' = aNew z 16 0 6)) := by
  have hT : (gT z 100).1 = 0 := by rw [hw.1]
  have hT3 : (gT z 263).1 = 5 := by rw [hm.1]
  have h40 := hr.2.1
  refine w_of (k := 24) (m := aM_X1_next) rfl rfl ?_
  refine w_nx (pc' := 1) rfl ?_
  obtain ⟨o, z1, e1, q1, q2⟩ := x_needC1 (d := d) hw h hn
  subst q1
  rw [q2] at e1
  refine w_cal (pc' := 4) rfl (a_cv0 rfl rfl rfl (hT) rfl rfl) (e1) ?_
  have bad : ¬ (inR x many ∧ inR y 8) → wR (aEx (d + 1)) aM_X1_next (fun o z' => (∃ s l, s < many ∧ l < 8 ∧ x = nI s ∧ y = nI l ∧ o = .inl (some (.int (oI (nxO many out s l)))) ∧ z' = z) ∨ (¬ (inR x many ∧ inR y 8) ∧ o = .inr (100 + gZ z) ∧ z' = aNew z 16 0 6)) 27 [some (.ref 100), some (.int x), some (.int y)] [] z := fun hb => w_thn rfl (.inr ⟨hb, rfl, rfl⟩)
  refine w_nx (pc' := 5) rfl ?_
  refine w_nx (pc' := 6) rfl ?_
  refine w_getR rfl rfl (hT) (congrArg va_rf (hw.2.2.1.2.2.2.2.2.2.2.2.1)) rfl ?_
  refine w_getI rfl rfl (hT3) rfl rfl ?_
  refine w_top (hr.1) ?_
  obtain ⟨o, z1, e1, q1, ⟨q2, q3⟩ | ⟨q2, q3⟩⟩ := x_within (d := d) (n := many) (x := x) (z := z) (by omega)
  · subst q3
    rw [q1] at e1
    refine w_cal (pc' := 15) rfl (rfl) (e1) ?_
    refine w_ifeq rfl rfl rfl (fun g => absurd g (by decide)) (fun _ => ?_)
    refine w_nx (pc' := 19) rfl ?_
    refine w_nx (pc' := 21) (S' := .int (nI 8) :: _) rfl ?_
    obtain ⟨o, z1, e1, q1, ⟨q4, q3⟩ | ⟨q4, q3⟩⟩ := x_within (d := d) (n := 8) (x := y) (z := z) (by decide)
    · subst q3
      rw [q1] at e1
      refine w_cal (pc' := 24) rfl (rfl) (e1) ?_
      refine w_ifne rfl rfl rfl (fun _ => ?_) (fun g => absurd (show ¬ nI 1 = 0 by decide) g)
      obtain ⟨s, s1, s2⟩ := q2
      obtain ⟨l, l1, l2⟩ := q4
      subst s2 l2
      have hms := hm.2.2.2 s (by omega)
      have hTs : (gT z (265 + 2 * s)).1 = 6 := by rw [hms.2.1]
      refine w_nx (pc' := 36) rfl ?_
      refine w_getR rfl rfl (hT) (congrArg va_rf (hw.2.2.1.2.2.2.2.2.2.2.2.1)) rfl ?_
      refine w_getR rfl rfl (hT3) (congrArg va_rf (hm.2.1)) rfl ?_
      refine w_nx (pc' := 43) rfl ?_
      refine w_ald rfl (fun _ _ _ _ _ _ => rfl) (hm.2.2.1) rfl (rfl) (by omega) (by decide) (congrArg va_rf (hms.1)) rfl ?_
      refine w_getR rfl rfl (hTs) (congrArg va_rf (hms.2.2.2.1)) rfl ?_
      refine w_nx (pc' := 48) rfl ?_
      refine w_ald rfl (fun _ _ _ _ _ _ => rfl) (hms.2.2.2.2) rfl (rfl) (by omega) (by decide) (congrArg va_rf (nxO_R hr l1 s1)) rfl ?_
      obtain ⟨o, z1, e1, q1, q3⟩ := x_numO (d := d) (s := nxO many out s l) (z := z) (fun j hj => by
        have hlt := nxO_lt hr l1 hj
        have hmj := hm.2.2.2 j (by omega)
        exact ⟨hmj.2.1, hmj.2.2.1⟩)
      subst q3
      rw [q1] at e1
      refine w_cal (pc' := 52) rfl (rfl) (e1) ?_
      exact w_fin rfl (.inl ⟨s, l, s1, l1, rfl, rfl, rfl, rfl⟩)
    · subst q3
      rw [q1] at e1
      refine w_cal (pc' := 24) rfl (rfl) (e1) ?_
      exact w_ifne rfl rfl rfl (fun g => absurd rfl g) (fun _ => bad fun g => q4 g.2)
  · subst q3
    rw [q1] at e1
    refine w_cal (pc' := 15) rfl (rfl) (e1) ?_
    exact w_ifeq rfl rfl rfl (fun _ => bad fun g => q2 g.1) (fun g => absurd rfl g)
/-- what a run writes -/
def rnR (z z' : aSt) : Prop := fr (fun b => b = 100 ∨ b = 350) z z' ∧ gZ z' = gZ z ∧ gS z' = gS z ∧ (∀ k, k ≠ 16 → gR z' 100 k = gR z 100 k) ∧ ∀ k, k ≠ 15 → k ≠ 17 → k ≠ 18 → gI z' 100 k = gI z 100 k
def frst (many : Nat) : Option Nat := if many = 0 then none else some 0
theorem x_begin0 {d : Nat} {z : aSt} (hw : twS z) (h : gI z 100 11 = -1) : aW (d + 2) 27 [.ref 100] z (fun o z' => o = .inr (100 + gZ z) ∧ z' = aNew z 15 0 6) := by
  have hT : (gT z 100).1 = 0 := by rw [hw.1]
  refine w_of (k := 27) (m := aM_X1_begin) rfl rfl ?_
  refine w_nx (pc' := 1) rfl ?_
  obtain ⟨o, z1, e1, q1, q2⟩ := x_needC0 (d := d) hw h
  subst q1
  rw [q2] at e1
  refine w_thr (a_cv0 rfl rfl rfl (hT) rfl rfl) (e1) rfl ?_
  exact ⟨rfl, rfl⟩
theorem x_begin {d n many : Nat} {z : aSt} (hw : twS z) (hm : monS z) (hr : gI z 263 1 = nI many) (h40 : many ≤ 40) (h : gI z 100 11 = nI n) (hn : n ≤ 9) : aW (d + 2) 27 [.ref 100] z (fun o z' => o = .inl (some (.int (bI (decide (many ≠ 0))))) ∧ rnR z z' ∧ gI z' 100 15 = nI 0 ∧ gR z' 100 16 = nxS (frst many) ∧ gI z' 100 17 = bI (frst many).isNone ∧ gI z' 100 18 = (if many = 0 then nI 0 else -1)) := by
  have hT : (gT z 100).1 = 0 := by rw [hw.1]
  have hT3 : (gT z 263).1 = 5 := by rw [hm.1]
  refine w_of (k := 27) (m := aM_X1_begin) rfl rfl ?_
  refine w_nx (pc' := 1) rfl ?_
  obtain ⟨o, z1, e1, q1, q2⟩ := x_needC1 (d := d) hw h hn
  subst q1
  rw [q2] at e1
  refine w_cal (pc' := 4) rfl (a_cv0 rfl rfl rfl (hT) rfl rfl) (e1) ?_
  refine w_nx (pc' := 5) rfl ?_
  refine w_nx (pc' := 6) (S' := .int (nI 0) :: _) rfl ?_
  refine w_put rfl rfl (hT) (by omega) rfl rfl rfl ?_
  have hTa : (gT (sI z 100 15 (nI 0)) 100).1 = 0 := hT
  have hT3a : (gT (sI z 100 15 (nI 0)) 263).1 = 5 := hT3
  have hma : monS (sI z 100 15 (nI 0)) := ⟨hm.1, hm.2.1, hm.2.2.1, fun i hi => ⟨(hm.2.2.2 i hi).1, (hm.2.2.2 i hi).2.1, (gI_ne (by omega)).trans (hm.2.2.2 i hi).2.2.1, (hm.2.2.2 i hi).2.2.2⟩⟩
  have r9 : gR (sI z 100 15 (nI 0)) 100 9 = some 263 := hw.2.2.1.2.2.2.2.2.2.2.2.1
  refine w_nx (pc' := 10) rfl ?_
  refine w_nx (pc' := 11) rfl ?_
  refine w_getR rfl rfl (hTa) (congrArg va_rf (r9)) rfl ?_
  obtain ⟨o, z1, e1, q1, q2⟩ := x_first (d := d) (many := many) hma ((gI_ne (by decide)).trans hr) h40
  subst q2
  rw [q1] at e1
  by_cases c : many = 0
  · rw [if_pos c] at e1
    refine w_cal (pc' := 17) rfl (a_cv0 rfl rfl rfl (hT3a) rfl rfl) (e1) ?_
    refine w_put rfl rfl hTa (by decide) rfl rfl rfl ?_
    have hTb : (gT (sR (sI z 100 15 (nI 0)) 100 16 none) 100).1 = 0 := hT
    have g16 : gR (sR (sI z 100 15 (nI 0)) 100 16 none) 100 16 = none := gR_same ..
    show wR _ _ _ 20 _ _ (sR (sI z 100 15 (nI 0)) 100 16 none)
    refine w_nx (pc' := 21) rfl ?_
    refine w_nx (pc' := 22) rfl ?_
    refine w_getR rfl rfl (hTb) (congrArg va_rf (g16)) rfl ?_
    refine w_inon (u := none) rfl rfl rfl (fun b hb => by cases hb) (fun _ => ?_)
    refine w_nx (pc' := 29) (S' := .int (nI 1) :: _) rfl ?_
    refine w_nx (pc' := 33) rfl ?_
    refine w_put rfl rfl (hTb) (by omega) rfl (rfl) rfl ?_
    have hTc : (gT (sI (sR (sI z 100 15 (nI 0)) 100 16 none) 100 17 (nI 1)) 100).1 = 0 := hT
    have g17 : gI (sI (sR (sI z 100 15 (nI 0)) 100 16 none) 100 17 (nI 1)) 100 17 = nI 1 := gI_same ..
    show wR _ _ _ 36 _ _ (sI (sR (sI z 100 15 (nI 0)) 100 16 none) 100 17 (nI 1))
    refine w_nx (pc' := 37) rfl ?_
    refine w_nx (pc' := 38) rfl ?_
    refine w_getI rfl rfl (hTc) rfl rfl ?_
    refine w_top (g17) ?_
    refine w_ifeq rfl rfl rfl (fun g => absurd g (by decide)) (fun _ => ?_)
    refine w_nx (pc' := 45) (S' := .int (nI 0) :: _) rfl ?_
    refine w_nx (pc' := 49) rfl ?_
    refine w_put rfl rfl (hTc) (by omega) rfl rfl rfl ?_
    have hTd : (gT (sI (sI (sR (sI z 100 15 (nI 0)) 100 16 none) 100 17 (nI 1)) 100 18 (nI 0)) 100).1 = 0 := hT
    have g17' : gI (sI (sI (sR (sI z 100 15 (nI 0)) 100 16 none) 100 17 (nI 1)) 100 18 (nI 0)) 100 17 = nI 1 := (gI_nk (by decide)).trans g17
    refine w_nx (pc' := 53) rfl ?_
    refine w_getI rfl rfl (hTd) rfl rfl ?_
    refine w_top (g17') ?_
    refine w_ifne rfl rfl rfl (fun _ => ?_) (fun g => absurd (show ¬ nI 1 = 0 by decide) g)
    refine w_nx (pc' := 64) (S' := .int (nI 0) :: _) rfl ?_
    refine w_fin rfl ⟨by rw [decide_eq_false (fun g => g c)]; rfl, ⟨fr_trans (fr_trans (fr_trans (fr_sI fun _ => .inl rfl) (fr_sR fun _ => .inl rfl)) (fr_sI fun _ => .inl rfl)) (fr_sI fun _ => .inl rfl), rfl, rfl, fun k hk => gR_nk hk, fun k h1 h2 h3 => (gI_nk h3).trans ((gI_nk h2).trans (show gI (sI z 100 15 (nI 0)) 100 k = gI z 100 k from gI_nk h1))⟩, (gI_nk (by decide)).trans ((gI_nk (by decide)).trans (show gI (sI z 100 15 (nI 0)) 100 15 = nI 0 from gI_same ..)), by unfold frst; rw [if_pos c]; exact g16, by unfold frst; rw [if_pos c]; exact g17', by rw [if_pos c]; exact gI_same ..⟩
  · rw [if_neg c] at e1
    refine w_cal (pc' := 17) rfl (a_cv0 rfl rfl rfl (hT3a) rfl rfl) (e1) ?_
    refine w_put rfl rfl hTa (by decide) rfl rfl rfl ?_
    have hTb : (gT (sR (sI z 100 15 (nI 0)) 100 16 (some 265)) 100).1 = 0 := hT
    have g16 : gR (sR (sI z 100 15 (nI 0)) 100 16 (some 265)) 100 16 = some 265 := gR_same ..
    show wR _ _ _ 20 _ _ (sR (sI z 100 15 (nI 0)) 100 16 (some 265))
    refine w_nx (pc' := 21) rfl ?_
    refine w_nx (pc' := 22) rfl ?_
    refine w_getR rfl rfl (hTb) (congrArg va_rf (g16)) rfl ?_
    refine w_inon (u := some 265) rfl rfl rfl (fun b hb => ?_) (fun hb => by cases hb)
    refine w_nx (pc' := 33) (S' := .int (nI 0) :: _) rfl ?_
    refine w_put rfl rfl (hTb) (by omega) rfl (rfl) rfl ?_
    have hTc : (gT (sI (sR (sI z 100 15 (nI 0)) 100 16 (some 265)) 100 17 (nI 0)) 100).1 = 0 := hT
    have g17 : gI (sI (sR (sI z 100 15 (nI 0)) 100 16 (some 265)) 100 17 (nI 0)) 100 17 = nI 0 := gI_same ..
    show wR _ _ _ 36 _ _ (sI (sR (sI z 100 15 (nI 0)) 100 16 (some 265)) 100 17 (nI 0))
    refine w_nx (pc' := 37) rfl ?_
    refine w_nx (pc' := 38) rfl ?_
    refine w_getI rfl rfl (hTc) rfl rfl ?_
    refine w_top (g17) ?_
    refine w_ifeq rfl rfl rfl (fun _ => ?_) (fun g => absurd rfl g)
    refine w_nx (pc' := 49) (S' := .int ((-1)) :: _) rfl ?_
    refine w_put rfl rfl (hTc) (by omega) rfl rfl rfl ?_
    have hTd : (gT (sI (sI (sR (sI z 100 15 (nI 0)) 100 16 (some 265)) 100 17 (nI 0)) 100 18 (-1)) 100).1 = 0 := hT
    have g17' : gI (sI (sI (sR (sI z 100 15 (nI 0)) 100 16 (some 265)) 100 17 (nI 0)) 100 18 (-1)) 100 17 = nI 0 := (gI_nk (by decide)).trans g17
    refine w_nx (pc' := 53) rfl ?_
    refine w_getI rfl rfl (hTd) rfl rfl ?_
    refine w_top (g17') ?_
    refine w_ifne rfl rfl rfl (fun g => absurd rfl g) (fun _ => ?_)
    refine w_nx (pc' := 60) (S' := .int (nI 1) :: _) rfl ?_
    refine w_nx (pc' := 64) rfl ?_
    refine w_fin rfl ⟨by rw [decide_eq_true c]; rfl, ⟨fr_trans (fr_trans (fr_trans (fr_sI fun _ => .inl rfl) (fr_sR fun _ => .inl rfl)) (fr_sI fun _ => .inl rfl)) (fr_sI fun _ => .inl rfl), rfl, rfl, fun k hk => gR_nk hk, fun k h1 h2 h3 => (gI_nk h3).trans ((gI_nk h2).trans (show gI (sI z 100 15 (nI 0)) 100 k = gI z 100 k from gI_nk h1))⟩, (gI_nk (by decide)).trans ((gI_nk (by decide)).trans (show gI (sI z 100 15 (nI 0)) 100 15 = nI 0 from gI_same ..)), by unfold frst; rw [if_neg c]; exact g16, by unfold frst; rw [if_neg c]; exact g17', by rw [if_neg c]; exact gI_same ..⟩
