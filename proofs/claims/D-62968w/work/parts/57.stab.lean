/-! heights: a greater one asks the same -/
theorem wfK_mono {z : aSt} {W W' : Nat → Prop} (h : ∀ q, W q → W' q) {k : Nat} (g : wfK z W k) : wfK z W' k :=
  ⟨g.1, g.2.1, g.2.2.1, fun e => (fun ⟨a1, a2, a3, a4, a5, a6, a7, a8⟩ => ⟨a1, a2, a3, a4, a5, a6, a7, fun q => h _ (a8 q)⟩) (g.2.2.2 e)⟩
theorem wfQ_mono {z : aSt} {W W' : Nat → Prop} (h : ∀ q, W q → W' q) {p : Nat} (g : wfQ z W p) : wfQ z W' p := by
  obtain ⟨g1, g2, g3⟩ := g
  refine ⟨g1, g2, ?_⟩
  rcases g3 with g | g | ⟨a1, a2, a3, a4⟩ | ⟨a1, a2, a3⟩ | ⟨a1, a2, a3, a4, a5, a6⟩ | ⟨a1, a2, a3, a4, a5⟩
  · exact .inl g
  · exact .inr (.inl g)
  · exact .inr (.inr (.inl ⟨a1, a2, h _ a3, a4⟩))
  · exact .inr (.inr (.inr (.inl ⟨a1, a2, fun k k1 k2 => wfK_mono h (a3 k k1 k2)⟩)))
  · exact .inr (.inr (.inr (.inr (.inl ⟨a1, a2, h _ a3, a4, h _ a5, a6⟩))))
  · exact .inr (.inr (.inr (.inr (.inr ⟨a1, a2, h _ a3, a4, h _ a5⟩))))
theorem wfP_up {z : aSt} : ∀ (m p : Nat), wfP z m p → wfP z (m + 1) p
  | 0, _, h => False.elim h
  | m + 1, p, h => wfQ_mono (fun q hq => wfP_up m q hq) (show wfQ z (wfP z m) p from h)
theorem wfP_le {z : aSt} {m e p : Nat} (h : wfP z m p) (he : m ≤ e) : wfP z e p := by
  induction he with
  | refl => exact h
  | step _ ih => exact wfP_up _ _ ih
theorem plcP_congr {z : aSt} {W : Nat → Prop} {A A' : Nat → Nat → Nat → Prop} (h : ∀ q, W q → ∀ l x, A q l x ↔ A' q l x) {k l x : Nat} (g : wfK z W k) : plcP z A k l x ↔ plcP z A' k l x := by
  unfold plcP
  constructor
  · intro q hb
    refine ⟨(q hb).1, fun he => ?_⟩
    have q2 := (q hb).2 he
    obtain ⟨a1, a2, a3, a4, a5, a6, a7, a8⟩ := g.2.2.2 he
    split
    · rename_i c; rw [if_pos c] at q2; exact q2
    · rename_i c; rw [if_neg c] at q2
      exact (h _ (a8 (a4.resolve_right c)) l x).mp q2
  · intro q hb
    refine ⟨(q hb).1, fun he => ?_⟩
    have q2 := (q hb).2 he
    obtain ⟨a1, a2, a3, a4, a5, a6, a7, a8⟩ := g.2.2.2 he
    split
    · rename_i c; rw [if_pos c] at q2; exact q2
    · rename_i c; rw [if_neg c] at q2
      exact (h _ (a8 (a4.resolve_right c)) l x).mpr q2
theorem askK_congr {z : aSt} {W : Nat → Prop} {A A' : Nat → Nat → Nat → Prop} (h : ∀ q, W q → ∀ l x, A q l x ↔ A' q l x) {p l x : Nat} (g : wfQ z W p) : askK z A (vR z p 0) p l x ↔ askK z A' (vR z p 0) p l x := by
  obtain ⟨_, _, g3⟩ := g
  rcases g3 with ⟨v, _⟩ | ⟨v, _⟩ | ⟨v, a2, a3, a4⟩ | ⟨v, a2, a3⟩ | ⟨v, a2, a3, a4, a5, a6⟩ | ⟨v, a2, a3, a4, a5⟩
  · rw [v]; exact Iff.rfl
  · rw [v]; exact Iff.rfl
  · rw [v]
    show (A _ l x ∧ _) ↔ (A' _ l x ∧ _)
    rw [h _ a3]
  · have key : (∀ k, k < vI z 104 0 → (vI z p 7).testBit k = true → plcP z A k l x) ↔ (∀ k, k < vI z 104 0 → (vI z p 7).testBit k = true → plcP z A' k l x) :=
      ⟨fun q k k1 k2 => (plcP_congr h (a3 k k1 k2)).mp (q k k1 k2), fun q k k1 k2 => (plcP_congr h (a3 k k1 k2)).mpr (q k k1 k2)⟩
    rcases v with v | v <;> rw [v] <;> exact key
  · rw [v]
    show (A _ l x ∨ A _ l x ∧ _) ↔ (A' _ l x ∨ A' _ l x ∧ _)
    rw [h _ a3, h _ a5]
  · rcases v with v | v <;> rw [v]
    · show (A _ l x ∧ A _ l x) ↔ (A' _ l x ∧ A' _ l x)
      rw [h _ a3, h _ a5]
    · show (A _ l x ∨ A _ l x) ↔ (A' _ l x ∨ A' _ l x)
      rw [h _ a3, h _ a5]
theorem askP_up {z : aSt} : ∀ (m p : Nat), wfP z m p → ∀ l x, askP z (m + 1) p l x ↔ askP z m p l x
  | 0, _, h, _, _ => False.elim h
  | m + 1, p, h, l, x => askK_congr (fun q hq l x => askP_up m q hq l x) (show wfQ z (wfP z m) p from h)
theorem askP_le {z : aSt} {m e p l x : Nat} (h : wfP z m p) (he : m ≤ e) : askP z e p l x ↔ askP z m p l x := by
  induction he with
  | refl => exact Iff.rfl
  | step hs ih => exact (askP_up _ _ (wfP_le h hs) l x).trans ih
