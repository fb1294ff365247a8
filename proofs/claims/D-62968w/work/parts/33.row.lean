/-! FRAMES and ROWS -/
set_option maxRecDepth 100000
/-- only ints of the cells F were written -/
def frI (F : Nat → Prop) (z z' : aSt) : Prop := gT z' = gT z ∧ gL z' = gL z ∧ gR z' = gR z ∧ gZ z' = gZ z ∧ gS z' = gS z ∧ ∀ a, ¬ F a → ∀ k, gI z' a k = gI z a k
theorem nI_m1 (n : Nat) : nI (n + 1) + Int32.ofInt (-1) = nI n := by
  have h : nI (n + 1) - 1 = nI n := nI_pred n
  rw [← h, Int32.sub_eq_add_neg]
  rfl
theorem gI_same (z : aSt) (a k : Nat) (v : Int32) : gI (sI z a k v) a k = v := by rw [gI_sI, if_pos rfl, if_pos rfl]
theorem gI_ne {z : aSt} {a k : Nat} {v : Int32} {b j : Nat} (h : b ≠ a) : gI (sI z a k v) b j = gI z b j := by rw [gI_sI, if_neg h]
theorem gI_nk {z : aSt} {a k : Nat} {v : Int32} {b j : Nat} (h : j ≠ k) : gI (sI z a k v) b j = gI z b j := by rw [gI_sI, if_neg h]; split <;> rfl
theorem frI_refl {F : Nat → Prop} (z : aSt) : frI F z z := ⟨rfl, rfl, rfl, rfl, rfl, fun _ _ _ => rfl⟩
theorem frI_trans {F : Nat → Prop} {z z1 z2 : aSt} (h : frI F z z1) (g : frI F z1 z2) : frI F z z2 :=
  ⟨g.1.trans h.1, g.2.1.trans h.2.1, g.2.2.1.trans h.2.2.1, g.2.2.2.1.trans h.2.2.2.1, g.2.2.2.2.1.trans h.2.2.2.2.1, fun a ha k => (g.2.2.2.2.2 a ha k).trans (h.2.2.2.2.2 a ha k)⟩
theorem frI_mono {F G : Nat → Prop} {z z1 : aSt} (h : frI F z z1) (hs : ∀ a, F a → G a) : frI G z z1 :=
  ⟨h.1, h.2.1, h.2.2.1, h.2.2.2.1, h.2.2.2.2.1, fun a ha k => h.2.2.2.2.2 a (fun f => ha (hs a f)) k⟩
theorem frI_sI {F : Nat → Prop} {z : aSt} {a k : Nat} {v : Int32} (h : F a) : frI F z (sI z a k v) := ⟨rfl, rfl, rfl, rfl, rfl, fun b hb j => gI_ne (fun e => hb (e ▸ h))⟩
theorem frI_to {F : Nat → Prop} {z z1 : aSt} {a k : Nat} {v : Int32} (g : frI F z z1) (h : F a) : frI F z (sI z1 a k v) := frI_trans g (frI_sI h)
/-- a Row at r, its sets at r + 1 -/
def rowOk (z : aSt) (r : Nat) : Prop := gT z r = (4, 0) ∧ gR z r 0 = some (r + 1) ∧ gT z (r + 1) = (40, 128) ∧ 100 ≤ r
/-- its cells -/
def rF (r : Nat) : Nat → Prop := fun a => a = r ∨ a = r + 1
theorem rowOk_fr {F : Nat → Prop} {z z' : aSt} {r : Nat} (h : rowOk z r) (f : frI F z z') : rowOk z' r := by
  obtain ⟨f1, _, f2, _⟩ := f
  unfold rowOk
  rw [f1, f2]
  exact h
/-- what it holds -/
def rowC (z : aSt) (r : Nat) (l : List Nat) : Prop := rowOk z r ∧ gI z r 1 = nI l.length ∧ ∀ i, i < l.length → gI z (r + 1) i = nI (l.getD i 0)
/-- a row for which the sets U are enough -/
def isRow (z : aSt) (r : Nat) (U : Nat → Prop) : Prop := ∃ l, rowC z r l ∧ ok l ∧ ∀ x, U x ↔ up l x
theorem rowC_fr {F : Nat → Prop} {z z' : aSt} {r : Nat} {l : List Nat} (h : rowC z r l) (f : frI F z z') (h1 : ¬ F r) (h2 : ¬ F (r + 1)) : rowC z' r l := by
  obtain ⟨a, b, c⟩ := h
  refine ⟨rowOk_fr a f, ?_, fun i hi => ?_⟩
  · rw [f.2.2.2.2.2 r h1]; exact b
  · rw [f.2.2.2.2.2 (r + 1) h2]; exact c i hi
theorem isRow_fr {F : Nat → Prop} {z z' : aSt} {r : Nat} {U : Nat → Prop} (h : isRow z r U) (f : frI F z z') (h1 : ¬ F r) (h2 : ¬ F (r + 1)) : isRow z' r U := by
  obtain ⟨l, a, b, c⟩ := h
  exact ⟨l, rowC_fr a f h1 h2, b, c⟩
theorem isRow_iff {z : aSt} {r : Nat} {U V : Nat → Prop} (h : isRow z r U) (e : ∀ x, V x ↔ U x) : isRow z r V := by
  obtain ⟨l, a, b, c⟩ := h
  exact ⟨l, a, b, fun x => (e x).trans (c x)⟩
theorem isRow_ok {z : aSt} {r : Nat} {U : Nat → Prop} (h : isRow z r U) : rowOk z r := by
  obtain ⟨l, a, _⟩ := h
  exact a.1
/-- rows that are not the same have no cell in common -/
theorem rF_off {z : aSt} {r q : Nat} (h : rowOk z r) (g : rowOk z q) (hn : r ≠ q) : ¬ rF q r ∧ ¬ rF q (r + 1) := by
  refine ⟨fun f => f.elim hn fun e => ?_, fun f => f.elim (fun e => ?_) fun e => hn (Nat.succ.inj e)⟩
  · have := h.1; rw [e, g.2.2.1] at this; cases this
  · have := h.2.2.1; rw [e, g.1] at this; cases this
theorem x_one {d r : Nat} {z : aSt} {s : Nat} (h : rowOk z r) (hs : s < 512) : aW (d + 1) 66 [.ref r, .int (nI s)] z (fun o z' => o = .inl none ∧ frI (rF r) z z' ∧ isRow z' r (fun x => sb s x)) := by
  have h0 := h
  obtain ⟨h1, h2, h3, h4⟩ := h
  have hT : (gT z r).1 = 4 := by rw [h1]
  refine w_of (k := 66) (m := aM_X4_one) rfl rfl ?_
  refine w_nx (pc' := 1) rfl ?_
  refine w_nx (pc' := 2) (S' := .int (nI 1) :: _) rfl ?_
  refine w_put rfl rfl (hT) (by omega) rfl rfl rfl ?_
  refine w_nx (pc' := 6) rfl ?_
  refine w_getR rfl rfl (hT) (congrArg va_rf (h2)) rfl ?_
  refine w_nx (pc' := 10) (S' := .int (nI 0) :: _) rfl ?_
  refine w_nx (pc' := 11) rfl ?_
  refine w_ast (f := fun x => x) rfl (fun _ _ _ _ _ _ => rfl) (h3) (by omega) (rfl) (by omega) (by decide) rfl ?_
  exact w_fin rfl (⟨rfl, frI_to (frI_sI (.inl rfl)) (.inr rfl), [s], ⟨rowOk_fr (rowOk_fr h0 (frI_sI (F := fun _ => True) trivial)) (frI_sI (F := fun _ => True) trivial), (gI_ne (by omega)).trans (gI_same ..), fun i hi => (by cases i with | zero => exact gI_same .. | succ i => exact absurd hi (by simp))⟩, ok_one hs, fun x => up_one.symm⟩)
theorem x_nothing {d r : Nat} {z : aSt} (h : rowOk z r) : aW (d + 1) 65 [.ref r] z (fun o z' => o = .inl none ∧ frI (rF r) z z' ∧ isRow z' r (fun _ => True)) := by
  have h0 := h
  obtain ⟨h1, h2, h3, h4⟩ := h
  have hT : (gT z r).1 = 4 := by rw [h1]
  refine w_of (k := 65) (m := aM_X4_nothing) rfl rfl ?_
  refine w_nx (pc' := 1) rfl ?_
  refine w_nx (pc' := 2) (S' := .int (nI 1) :: _) rfl ?_
  refine w_put rfl rfl (hT) (by omega) rfl rfl rfl ?_
  refine w_nx (pc' := 6) rfl ?_
  refine w_getR rfl rfl (hT) (congrArg va_rf (h2)) rfl ?_
  refine w_nx (pc' := 10) (S' := .int (nI 0) :: _) rfl ?_
  refine w_nx (pc' := 11) (S' := .int (nI 0) :: _) rfl ?_
  refine w_ast (f := fun x => x) rfl (fun _ _ _ _ _ _ => rfl) (h3) (by omega) (rfl) (by omega) (by decide) rfl ?_
  exact w_fin rfl (⟨rfl, frI_to (frI_sI (.inl rfl)) (.inr rfl), [0], ⟨rowOk_fr (rowOk_fr h0 (frI_sI (F := fun _ => True) trivial)) (frI_sI (F := fun _ => True) trivial), (gI_ne (by omega)).trans (gI_same ..), fun i hi => (by cases i with | zero => exact gI_same .. | succ i => exact absurd hi (by simp))⟩, ok_one (by decide), fun x => ⟨fun _ => up_one.mpr (sb_zero x), fun _ => trivial⟩⟩)
theorem x_impossible {d r : Nat} {z : aSt} (h : rowOk z r) : aW (d + 1) 68 [.ref r] z (fun o z' => o = .inl none ∧ frI (rF r) z z' ∧ isRow z' r (fun _ => False)) := by
  have h0 := h
  obtain ⟨h1, h2, h3, h4⟩ := h
  have hT : (gT z r).1 = 4 := by rw [h1]
  refine w_of (k := 68) (m := aM_X4_impossible) rfl rfl ?_
  refine w_nx (pc' := 1) rfl ?_
  refine w_nx (pc' := 2) (S' := .int (nI 0) :: _) rfl ?_
  refine w_put rfl rfl (hT) (by omega) rfl rfl rfl ?_
  exact w_fin rfl (⟨rfl, frI_sI (.inl rfl), [], ⟨rowOk_fr h0 (frI_sI (F := fun _ => True) trivial), gI_same .., fun i hi => (by cases hi)⟩, ok_nil, fun x => ⟨False.elim, up_nil⟩⟩)
theorem x_add3 {d r s : Nat} {F : List Nat} {place left : Nat} (hF : F.length = left) (hl : left ≤ 126) : ∀ (n : Nat) (z : aSt), rowOk z r → place + n ≤ left → (∀ i, i < place + n → gI z (r + 1) i = nI (F.getD i 0)) → (∀ i, place + n < i → i ≤ left → gI z (r + 1) i = nI (F.getD (i - 1) 0)) →
    wR (aEx d) aM_X4_add (fun o z' => o = .inl none ∧ frI (rF r) z z' ∧ rowC z' r (F.take place ++ s :: F.drop place)) 104 [some (.ref r), some (.int (nI s)), some (.int (nI left)), some (.int (nI place)), some (.int (nI (place + n)))] [] z := by
  intro n
  induction n with
  | zero =>
    intro z h hp hA hB
    have h0 := h
    obtain ⟨h1, h2, h3, h4⟩ := h
    have hT : (gT z r).1 = 4 := by rw [h1]
    refine w_nx (pc' := 106) rfl ?_
    refine w_nx (pc' := 107) rfl ?_
    refine w_ncle rfl rfl rfl (rfl) (rfl) (by omega) (by omega) (fun hb => ?_) (fun hb => ?_)
    · refine w_nx (pc' := 133) rfl ?_
      refine w_getR rfl rfl (hT) (congrArg va_rf (h2)) rfl ?_
      refine w_nx (pc' := 137) rfl ?_
      refine w_nx (pc' := 138) rfl ?_
      refine w_ast (f := fun x => x) rfl (fun _ _ _ _ _ _ => rfl) (h3) (by omega) (rfl) (by omega) (by decide) rfl ?_
      refine w_nx (pc' := 140) rfl ?_
      refine w_nx (pc' := 141) rfl ?_
      refine w_nx (pc' := 142) (S' := .int (nI 1) :: _) rfl ?_
      refine w_nx (pc' := 143) rfl ?_
      refine w_top (nI_add left 1) ?_
      refine w_put rfl rfl (hT) (by omega) rfl rfl rfl ?_
      refine w_fin rfl ⟨rfl, frI_to (frI_sI (.inr rfl)) (.inl rfl), ?_⟩
      have hle : place ≤ F.length := by omega
      refine ⟨rowOk_fr (rowOk_fr h0 (frI_sI (F := fun _ => True) trivial)) (frI_sI (F := fun _ => True) trivial), ?_, fun i hi => ?_⟩
      · rw [gI_same]
        congr 1
        simp only [List.length_append, List.length_cons, List.length_take, List.length_drop]
        omega
      · rw [gI_ne (by omega), gI_sI, if_pos rfl]
        rw [List.getD_eq_getElem?_getD, List.getElem?_append, List.length_take, Nat.min_eq_left hle]
        simp only [List.length_append, List.length_cons, List.length_take, List.length_drop] at hi
        by_cases c1 : i < place
        · rw [if_neg (by omega), if_pos c1, List.getElem?_take, if_pos c1, hA i (by omega), List.getD_eq_getElem?_getD]
        · rw [if_neg c1]
          by_cases c2 : i = place
          · rw [if_pos c2, c2, Nat.sub_self]
            rfl
          · rw [if_neg c2, hB i (by omega) (by omega)]
            obtain ⟨j, hj⟩ : ∃ j, i - place = j + 1 := ⟨i - place - 1, by omega⟩
            rw [hj, List.getElem?_cons_succ, List.getElem?_drop, List.getD_eq_getElem?_getD]
            have e : i - 1 = place + j := by omega
            rw [e]
    · omega
  | succ n ih =>
    intro z h hp hA hB
    have h0 := h
    obtain ⟨h1, h2, h3, h4⟩ := h
    have hT : (gT z r).1 = 4 := by rw [h1]
    refine w_nx (pc' := 106) rfl ?_
    refine w_nx (pc' := 107) rfl ?_
    refine w_ncle rfl rfl rfl (rfl) (rfl) (by omega) (by omega) (fun hb => ?_) (fun hb => ?_)
    · omega
    · refine w_nx (pc' := 111) rfl ?_
      refine w_getR rfl rfl (hT) (congrArg va_rf (h2)) rfl ?_
      refine w_nx (pc' := 116) rfl ?_
      refine w_nx (pc' := 117) rfl ?_
      refine w_getR rfl rfl (hT) (congrArg va_rf (h2)) rfl ?_
      refine w_nx (pc' := 122) rfl ?_
      refine w_nx (pc' := 123) (S' := .int (nI 1) :: _) rfl ?_
      refine w_nx (pc' := 124) rfl ?_
      refine w_top (nI_pred (place + n)) ?_
      refine w_ald rfl (fun _ _ _ _ _ _ => rfl) (h3) rfl (rfl) (by omega) (by decide) rfl rfl ?_
      refine w_ast (f := fun x => x) rfl (fun _ _ _ _ _ _ => rfl) (h3) (by omega) (rfl) (by omega) (by decide) rfl ?_
      refine w_iinc rfl rfl (nI_m1 (place + n)) rfl rfl ?_
      refine w_nx (pc' := 104) rfl ?_
      refine w_imp ?_ (ih _ (rowOk_fr h0 (frI_sI (F := fun _ => True) trivial)) (by omega) (fun i hi => ?_) (fun i hi hj => ?_))
      · intro o z' hq
        exact ⟨hq.1, frI_trans (frI_sI (.inr rfl)) hq.2.1, hq.2.2⟩
      · rw [gI_nk (by omega)]
        exact hA i (by omega)
      · rw [gI_sI, if_pos rfl]
        by_cases c : i = place + (n + 1)
        · rw [if_pos c, c]
          exact hA (place + n) (by omega)
        · rw [if_neg c]
          exact hB i (by omega) hj
