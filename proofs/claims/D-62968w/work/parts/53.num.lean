/-! Duties.walk: numbers stay -/
set_option maxRecDepth 100000
section NUM
variable {z : aSt} {n a b : Nat} {l r : Tr} {due : Bool} {k p : Nat}
theorem owns_le (due : Bool) (n : Nat) : owns due n ≤ 1 := by unfold owns; split <;> omega
theorem wid_u (h : n = 1 ∨ n = 2) : wid (.inner n a b l r) due = owns due n + wid l (n == 2) := by rcases h with rfl | rfl <;> rfl
theorem wid_s (h : n = 3 ∨ n = 4) : wid (.inner n a b l r) due = owns due n + ((sfo (sq l)).length + wid r (n == 4)) := by rcases h with rfl | rfl <;> rfl
theorem wid_b (h : n = 5 ∨ n = 6 ∨ n = 7) : wid (.inner n a b l r) due = owns due n + (wid l false + wid r false) := by rcases h with rfl | rfl | rfl <;> rfl
theorem pts_u (h : n = 1 ∨ n = 2) : pts z (.inner n a b l r) p = p :: pts z l (vR z p 1) := by rcases h with rfl | rfl <;> rfl
theorem pts_s (h : n = 3 ∨ n = 4) : pts z (.inner n a b l r) p = p :: pts z r (vR z p 2) := by rcases h with rfl | rfl <;> rfl
theorem pts_b (h : n = 5 ∨ n = 6 ∨ n = 7) : pts z (.inner n a b l r) p = p :: (pts z l (vR z p 1) ++ pts z r (vR z p 2)) := by rcases h with rfl | rfl | rfl <;> rfl
theorem num_u (h : n = 1 ∨ n = 2) : numC z (.inner n a b l r) p due k ↔ (owns due n = 1 → gI z p 6 = nI k ∧ gR z 105 k = some p) ∧ numC z l (vR z p 1) (n == 2) (k + owns due n) := by rcases h with rfl | rfl <;> exact Iff.rfl
theorem num_s (h : n = 3 ∨ n = 4) : numC z (.inner n a b l r) p due k ↔ (owns due n = 1 → gI z p 6 = nI k ∧ gR z 105 k = some p) ∧ gI z p 7 = nI (sFi (sq l) * 2 ^ (k + owns due n)) ∧ plcAt z (k + owns due n) (sq l) p ∧ numC z r (vR z p 2) (n == 4) (k + owns due n + (sfo (sq l)).length) := by rcases h with rfl | rfl <;> exact Iff.rfl
theorem num_b (h : n = 5 ∨ n = 6 ∨ n = 7) : numC z (.inner n a b l r) p due k ↔ (owns due n = 1 → gI z p 6 = nI k ∧ gR z 105 k = some p) ∧ numC z l (vR z p 1) false (k + owns due n) ∧ numC z r (vR z p 2) false (k + owns due n + wid l false) := by rcases h with rfl | rfl | rfl <;> exact Iff.rfl
end NUM
theorem plc_ent {z : aSt} {k q i : Nat} {r : SQ} (h : plcAt z k r q) (h1 : k ≤ i) (h2 : i < k + (sfo r).length) : gR z 109 i = some q ∧ gR z 105 i = none ∧ (gI z 108 i = 0 ∨ gI z 108 i = 1) := by
  have e := h (i - k) (by omega)
  rw [show k + (i - k) = i by omega] at e
  unfold ent at e
  simp only [Prod.mk.injEq] at e
  refine ⟨e.2.2.2.1, e.2.2.2.2, ?_⟩
  rw [e.2.2.1]
  split
  · exact .inr rfl
  · exact .inl rfl
/-- a place stands behind a Part of the text -/
theorem numC_in {z : aSt} : ∀ (T : Tr) (p : Nat) (due : Bool) (k : Nat), repP z T p → numC z T p due k → ∀ i, k ≤ i → i < k + wid T due → gR z 105 i = none → (∃ b, gR z 109 i = some b ∧ b ∈ pts z T p) ∧ (gI z 108 i = 0 ∨ gI z 108 i = 1)
  | .leaf, _, _, _, h, _ => False.elim h
  | .inner n a b l r, p, due, k, ⟨h2, h3, h⟩, hn => by
    intro i hi1 hi2 hi3
    have ow := owns_le due n
    have hd : (owns due n = 1 → gI z p 6 = nI k ∧ gR z 105 k = some p) := hn.1
    have hge : k + owns due n ≤ i := by
      apply Nat.le_of_not_lt
      intro g
      have e : i = k := by omega
      have := (hd (by omega)).2
      rw [← e, hi3] at this
      cases this
    rcases h with ⟨h1, h4⟩ | ⟨h1, h4, h5⟩ | ⟨h1, h4, h5, h6, h7⟩ | ⟨h1, h4, h5, h6, h7⟩
    · subst h1
      have : wid (.inner 0 a b l r) due = owns due 0 + 0 := rfl
      omega
    · rw [wid_u h1] at hi2
      obtain ⟨⟨b, g1, g2⟩, g9⟩ := numC_in l _ _ _ h5 ((num_u h1).mp hn).2 i hge (by omega) hi3
      exact ⟨⟨b, g1, by rw [pts_u h1]; exact List.mem_cons_of_mem _ g2⟩, g9⟩
    · rw [wid_s h1] at hi2
      obtain ⟨_, _, g3, g4⟩ := (num_s h1).mp hn
      by_cases c : i < k + owns due n + (sfo (sq l)).length
      · exact ⟨⟨p, (plc_ent g3 hge c).1, by rw [pts_s h1]; exact List.mem_cons_self ..⟩, (plc_ent g3 hge c).2.2⟩
      · obtain ⟨⟨b, q1, q2⟩, g9⟩ := numC_in r _ _ _ h7 g4 i (by omega) (by omega) hi3
        exact ⟨⟨b, q1, by rw [pts_s h1]; exact List.mem_cons_of_mem _ q2⟩, g9⟩
    · rw [wid_b h1] at hi2
      obtain ⟨_, g3, g4⟩ := (num_b h1).mp hn
      by_cases c : i < k + owns due n + wid l false
      · obtain ⟨⟨b, q1, q2⟩, g9⟩ := numC_in l _ _ _ h5 g3 i hge (by omega) hi3
        exact ⟨⟨b, q1, by rw [pts_b h1]; exact List.mem_cons_of_mem _ (List.mem_append.mpr (.inl q2))⟩, g9⟩
      · obtain ⟨⟨b, q1, q2⟩, g9⟩ := numC_in r _ _ _ h7 g4 i (by omega) (by omega) hi3
        exact ⟨⟨b, q1, by rw [pts_b h1]; exact List.mem_cons_of_mem _ (List.mem_append.mpr (.inr q2))⟩, g9⟩
/-- numbers stay when other Parts are numbered -/
theorem numC_keep {z z' : aSt} (f : shp z z') : ∀ (T : Tr) (p : Nat) (due : Bool) (k : Nat), repP z T p → numC z T p due k → (∀ b, b ∈ pts z T p → ∀ j, gI z' b j = gI z b j) → (∀ i, k ≤ i → i < k + wid T due → gR z' 105 i = gR z 105 i ∧ (gR z 105 i = none → ent z' i = ent z i)) → numC z' T p due k
  | .leaf, _, _, _, h, _, _, _ => False.elim h
  | .inner n a b l r, p, due, k, ⟨h2, h3, h⟩, hn, hp, he => by
    have ow := owns_le due n
    have hd : (owns due n = 1 → gI z p 6 = nI k ∧ gR z 105 k = some p) := hn.1
    have v := vR_shp f h2
    have pin : p ∈ pts z (.inner n a b l r) p := List.mem_cons_self ..
    have hd' : (owns due n = 1 → gI z' p 6 = nI k ∧ gR z' 105 k = some p) := fun g => ⟨(hp p pin 6).trans (hd g).1, ((he k (Nat.le_refl k) (by unfold wid; omega)).1).trans (hd g).2⟩
    rcases h with ⟨h1, h4⟩ | ⟨h1, h4, h5⟩ | ⟨h1, h4, h5, h6, h7⟩ | ⟨h1, h4, h5, h6, h7⟩
    · subst h1
      exact ⟨hd', trivial⟩
    · rw [pts_u h1] at hp
      rw [wid_u h1] at he
      rw [num_u h1] at hn ⊢
      rw [v 1]
      exact ⟨hd', numC_keep f l _ _ _ h5 hn.2 (fun b hb => hp b (List.mem_cons_of_mem _ hb)) (fun i g1 g2 => he i (by omega) (by omega))⟩
    · rw [pts_s h1] at hp
      rw [wid_s h1] at he
      rw [num_s h1] at hn ⊢
      rw [v 2]
      obtain ⟨_, g2, g3, g4⟩ := hn
      refine ⟨hd', (hp p (List.mem_cons_self ..) 7).trans g2, fun i hi => ?_, numC_keep f r _ _ _ h7 g4 (fun b hb => hp b (List.mem_cons_of_mem _ hb)) (fun i g1 g2 => he i (by omega) (by omega))⟩
      have q := plc_ent g3 (Nat.le_add_right _ i) (by omega)
      exact ((he _ (by omega) (by omega)).2 q.2.1).trans (g3 i hi)
    · rw [pts_b h1] at hp
      rw [wid_b h1] at he
      rw [num_b h1] at hn ⊢
      rw [v 1, v 2]
      obtain ⟨_, g3, g4⟩ := hn
      exact ⟨hd', numC_keep f l _ _ _ h5 g3 (fun b hb => hp b (List.mem_cons_of_mem _ (List.mem_append.mpr (.inl hb)))) (fun i g1 g2 => he i (by omega) (by omega)), numC_keep f r _ _ _ h7 g4 (fun b hb => hp b (List.mem_cons_of_mem _ (List.mem_append.mpr (.inr hb)))) (fun i g1 g2 => he i (by omega) (by omega))⟩
