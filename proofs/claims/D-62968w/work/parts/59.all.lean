/-! every obligation is well made -/
set_option maxRecDepth 100000
theorem wfK_le {z : aSt} {m e i : Nat} (h : wfK z (wfP z m) i) (he : m ≤ e) : wfK z (wfP z e) i := wfK_mono (fun _ hq => wfP_le hq he) h
/-- obligation i, well made at height m -/
def obl (z : aSt) (m i : Nat) : Prop := (∃ q, gR z 105 i = some q ∧ okQ z q ∧ wfP z m q) ∨ (gR z 105 i = none ∧ wfK z (wfP z m) i)
theorem obl_le {z : aSt} {m e i : Nat} (h : obl z m i) (he : m ≤ e) : obl z e i := by
  rcases h with ⟨q, h1, h2, h3⟩ | ⟨h1, h2⟩
  · exact .inl ⟨q, h1, h2, wfP_le h3 he⟩
  · exact .inr ⟨h1, wfK_le h2 he⟩
theorem num_all {z : aSt} : ∀ (T : Tr) (p : Nat) (due : Bool) (k : Nat), repP z T p → numC z T p due k → k + wid T due ≤ 9 → ∀ i, k ≤ i → i < k + wid T due → obl z (ht T) i
  | .leaf, _, _, _, h, _, _ => False.elim h
  | .inner n a b l r, p, due, k, ⟨h2, h3, h⟩, hn, hk => by
    intro i hi1 hi2
    have ow := owns_le due n
    have hself := wf_num (.inner n a b l r) p due k ⟨h2, h3, h⟩ hn hk
    have hd : (owns due n = 1 → gI z p 6 = nI k ∧ gR z 105 k = some p) := hn.1
    by_cases c0 : i < k + owns due n
    · have e : i = k := by omega
      exact .inl ⟨p, by rw [e]; exact (hd (by omega)).2, h2, hself⟩
    · have hl : ht l ≤ ht (.inner n a b l r) := by show ht l ≤ ht l + ht r + 1; omega
      have hr : ht r ≤ ht (.inner n a b l r) := by show ht r ≤ ht l + ht r + 1; omega
      rcases h with ⟨h1, h4⟩ | ⟨h1, h4, h5⟩ | ⟨h1, h4, h5, h6, h7⟩ | ⟨h1, h4, h5, h6, h7⟩
      · subst h1
        have : wid (.inner 0 a b l r) due = owns due 0 + 0 := rfl
        omega
      · rw [wid_u h1] at hi2 hk
        exact obl_le (num_all l _ _ _ h5 ((num_u h1).mp hn).2 (by omega) i (by omega) (by omega)) hl
      · rw [wid_s h1] at hi2 hk
        obtain ⟨_, g2, g3, g4⟩ := (num_s h1).mp hn
        by_cases c : i < k + owns due n + (sfo (sq l)).length
        · refine .inr ⟨(plc_ent g3 (by omega) c).2.1, wf_plc h2 h3 h1 h6 (repP_ok h7) (fun h4' => ?_) (wfP_le (wf_num r _ _ _ h7 g4 (by omega)) hr) g3 (by omega) (by omega) c⟩
          subst h4'
          obtain ⟨q1, q2, q3⟩ := own_due h7 g4
          have hk' : k + (owns due 4 + ((sfo (sq l)).length + wid r true)) ≤ 9 := hk
          rw [vI_of q1 (by omega)]
          omega
        · exact obl_le (num_all r _ _ _ h7 g4 (by omega) i (by omega) (by omega)) hr
      · rw [wid_b h1] at hi2 hk
        obtain ⟨_, g3, g4⟩ := (num_b h1).mp hn
        by_cases c : i < k + owns due n + wid l false
        · exact obl_le (num_all l _ _ _ h5 g3 (by omega) i (by omega) (by omega)) hl
        · exact obl_le (num_all r _ _ _ h7 g4 (by omega) i (by omega) (by omega)) hr
