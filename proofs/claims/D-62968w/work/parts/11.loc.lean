/-! SOUNDNESS, 2: locals -/
def aLv (D : aD) (L : List (Option Value)) : List (Nat × Value) := (List.range L.length).filterMap (fun i => match L[i]? with
  | some (some v) => some (i, aRh D v)
  | _ => none)
theorem aLv_mem {D : aD} {L : List (Option Value)} {i : Nat} {v : Value} (h : L[i]? = some (some v)) : (i, aRh D v) ∈ aLv D L := by
  refine List.mem_filterMap.mpr ⟨i, List.mem_range.mpr (List.getElem?_eq_some_iff.mp h).1, ?_⟩
  rw [h]
theorem aLv_of {D : aD} {L : List (Option Value)} {q : Nat × Value} (h : q ∈ aLv D L) : ∃ v, L[q.1]? = some (some v) ∧ q.2 = aRh D v := by
  obtain ⟨i, -, hi⟩ := List.mem_filterMap.mp h
  split at hi
  · rename_i v hv
    cases hi
    exact ⟨v, hv, rfl⟩
  · cases hi
theorem aLoc.lv {D : aD} {L : List (Option Value)} {ls : Array Slot} (h : aLoc D L ls) : lv_has ls L.length (aLv D L) := by
  refine ⟨h.1, h.2.1, fun q hq => ?_⟩
  obtain ⟨v, hv, e⟩ := aLv_of hq
  rw [e]
  exact h.2.2 _ _ hv
theorem aSto_len (L : List (Option Value)) (i : Nat) (v : Value) : (aSto L i v).length = L.length := by
  unfold aSto
  dsimp only
  repeat' split
  all_goals simp
theorem aSto_at {L : List (Option Value)} {i j : Nat} {v w : Value} (hi : i < L.length) (h : (aSto L i v)[j]? = some (some w)) :
    (j = i ∧ w = v) ∨ (j ≠ i ∧ (v.category = 2 → j ≠ i + 1) ∧ L[j]? = some (some w) ∧ ¬ (j + 1 = i ∧ w.category = 2)) := by
  have base : ∀ {w : Value}, (if v.category = 2 then (L.set i (some v)).set (i + 1) none else L.set i (some v))[j]? = some (some w) → (j = i ∧ w = v) ∨ (j ≠ i ∧ (v.category = 2 → j ≠ i + 1) ∧ L[j]? = some (some w)) := by
    intro w h
    by_cases hji : j = i
    · left
      subst hji
      split at h
      · rw [List.getElem?_set_ne (by omega), List.getElem?_set_self hi] at h
        cases h
        exact ⟨rfl, rfl⟩
      · rw [List.getElem?_set_self hi] at h
        cases h
        exact ⟨rfl, rfl⟩
    · right
      split at h
      · rename_i hc
        by_cases hj2 : j = i + 1
        · subst hj2
          rw [List.getElem?_set] at h
          simp at h
        · rw [List.getElem?_set_ne (by omega), List.getElem?_set_ne (by omega)] at h
          exact ⟨hji, fun _ => hj2, h⟩
      · rename_i hc
        rw [List.getElem?_set_ne (by omega)] at h
        exact ⟨hji, fun q => absurd q hc, h⟩
  unfold aSto at h
  simp only at h
  split at h
  · rcases base h with q | ⟨q1, q2, q3⟩
    · exact Or.inl q
    · exact Or.inr ⟨q1, q2, q3, fun q => by omega⟩
  · rename_i i k
    split at h
    · rename_i u hu
      split at h
      · rename_i hc
        by_cases hjk : j = k
        · subst hjk
          rw [List.getElem?_set] at h
          simp at h
        · rw [List.getElem?_set_ne (by omega)] at h
          rcases base h with q | ⟨q1, q2, q3⟩
          · exact Or.inl q
          · exact Or.inr ⟨q1, q2, q3, fun q => by omega⟩
      · rename_i hc
        rcases base h with q | ⟨q1, q2, q3⟩
        · exact Or.inl q
        · refine Or.inr ⟨q1, q2, q3, fun q => ?_⟩
          have e : j = k := by omega
          subst e
          rw [q3] at hu
          cases hu
          exact hc q.2
    · rename_i hn
      rcases base h with q | ⟨q1, q2, q3⟩
      · exact Or.inl q
      · refine Or.inr ⟨q1, q2, q3, fun q => ?_⟩
        have e : j = k := by omega
        subst e
        exact hn _ q3
theorem aLoc.st1 {D : aD} {L : List (Option Value)} {ls' : Array Slot} {i : Nat} {v : Value} (hi : i < L.length) (h' : lv_has ls' L.length ((i, aRh D v) :: (aLv D L).filter (fun q => !(q.1 == i) && !(q.1 + 1 == i && q.2.category == 2)))) : aLoc D (aSto L i v) ls' := by
  refine ⟨by rw [aSto_len]; exact h'.1, h'.2.1, fun j w hw => ?_⟩
  rcases aSto_at hi hw with ⟨rfl, rfl⟩ | ⟨q1, q2, q3, q4⟩
  · exact h'.2.2 _ List.mem_cons_self
  · refine h'.2.2 (j, aRh D w) (List.mem_cons_of_mem _ (List.mem_filter.mpr ⟨aLv_mem q3, ?_⟩))
    simp only [aRh_cat]
    simp only [Bool.and_eq_true, Bool.not_eq_true', beq_eq_false_iff_ne, ne_eq, Bool.and_eq_false_iff]
    refine ⟨q1, ?_⟩
    by_cases e : j + 1 = i
    · right
      intro hc
      exact q4 ⟨e, hc⟩
    · left
      exact e
theorem aLoc.st2 {D : aD} {L : List (Option Value)} {ls' : Array Slot} {i : Nat} {v : Value} (hi : i < L.length) (hc : v.category = 2) (h' : lv_has ls' L.length ((i, aRh D v) :: (aLv D L).filter (fun q => !(q.1 == i) && (!(q.1 == i + 1) && !(q.1 + 1 == i && q.2.category == 2))))) : aLoc D (aSto L i v) ls' := by
  refine ⟨by rw [aSto_len]; exact h'.1, h'.2.1, fun j w hw => ?_⟩
  rcases aSto_at hi hw with ⟨rfl, rfl⟩ | ⟨q1, q2, q3, q4⟩
  · exact h'.2.2 _ List.mem_cons_self
  · refine h'.2.2 (j, aRh D w) (List.mem_cons_of_mem _ (List.mem_filter.mpr ⟨aLv_mem q3, ?_⟩))
    simp only [aRh_cat]
    simp only [Bool.and_eq_true, Bool.not_eq_true', beq_eq_false_iff_ne, ne_eq, Bool.and_eq_false_iff]
    refine ⟨q1, q2 hc, ?_⟩
    by_cases e : j + 1 = i
    · right
      intro hc
      exact q4 ⟨e, hc⟩
    · left
      exact e
theorem aArgs_lv (D : aD) : ∀ (vs : List Value) (i j : Nat) (v : Value), (aArgs vs)[j]? = some (some v) → (i + j, aRh D v) ∈ lv_args i (vs.map (aRh D)) := by
  intro vs
  induction vs with
  | nil => intro i j v h; simp [aArgs] at h
  | cons u vs ih =>
    intro i j v h
    unfold aArgs at h
    simp only [List.map_cons, lv_args, aRh_cat]
    split at h
    · rename_i hc
      rw [if_pos hc]
      match j, h with
      | 0, h => simp at h; subst h; exact List.mem_cons_self
      | 1, h => simp at h
      | j + 2, h =>
        have := ih (i + 2) j v (by simpa using h)
        rw [show i + (j + 2) = i + 2 + j by omega]
        exact List.mem_cons_of_mem _ this
    · rename_i hc
      rw [if_neg hc]
      match j, h with
      | 0, h => simp at h; subst h; exact List.mem_cons_self
      | j + 1, h =>
        have := ih (i + 1) j v (by simpa using h)
        rw [show i + (j + 1) = i + 1 + j by omega]
        exact List.mem_cons_of_mem _ this
theorem aArgs_len (D : aD) : ∀ (vs : List Value), (lg_sl (vs.map (aRh D))).length = (aArgs vs).length := by
  intro vs
  induction vs with
  | nil => simp [lg_sl, aArgs]
  | cons u vs ih =>
    simp only [List.map_cons, aArgs]
    have e : lg_sl (aRh D u :: vs.map (aRh D)) = (if (aRh D u).category = 2 then [Slot.val (aRh D u), .second] else [.val (aRh D u)]) ++ lg_sl (vs.map (aRh D)) := rfl
    rw [e, aRh_cat]
    split <;> simp [ih]
/-- the locals at the entry -/
theorem aEnt_loc {D : aD} {mm : aMi} {as : List Value} {L : List (Option Value)} (h : aEnt mm as = some L) :
    L.length = mLoc mm ∧ aLoc D L ((lg_sl (as.map (aRh D)) ++ List.replicate (mLoc mm - (lg_sl (as.map (aRh D))).length) Slot.unset).toArray) := by
  unfold aEnt at h
  split at h
  · rename_i hle
    cases h
    have hl : (aArgs as ++ List.replicate (mLoc mm - (aArgs as).length) none).length = mLoc mm := by simp; omega
    refine ⟨hl, ?_⟩
    have he := lv_entry (as.map (aRh D)) (n := mLoc mm) (by rw [aArgs_len]; exact hle)
    refine ⟨by rw [hl]; exact he.1, he.2.1, fun i v hv => ?_⟩
    refine he.2.2 (i, aRh D v) ?_
    by_cases hi : i < (aArgs as).length
    · rw [List.getElem?_append_left hi] at hv
      have := aArgs_lv D as 0 i v hv
      simpa using this
    · rw [List.getElem?_append_right (by omega), List.getElem?_replicate] at hv
      split at hv <;> simp at hv
  · cases h
