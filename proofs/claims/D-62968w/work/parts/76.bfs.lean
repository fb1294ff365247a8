/-! THE PURE SEARCH for conditions: a condition is named by the letters that lead to it (the last one first) -/
set_option maxRecDepth 100000
/-- the first one for which p -/
def fi {α : Type} (p : α → Bool) : List α → Nat
  | [] => 0
  | w :: t => if p w = true then 0 else fi p t + 1
theorem fi_eq {α : Type} {p : α → Bool} : ∀ {ws : List α} {j : Nat}, (∀ i (hi : i < ws.length), i < j → p ws[i] = false) → j ≤ ws.length → (∀ hj : j < ws.length, p ws[j] = true) → fi p ws = j
  | [], j, _, h, _ => (Nat.le_zero.mp h).symm
  | w :: t, 0, h1, h2, h3 => by
    have := h3 (Nat.succ_pos _)
    unfold fi
    exact if_pos this
  | w :: t, j + 1, h1, h2, h3 => by
    have a := h1 0 (Nat.succ_pos _) (Nat.succ_pos _)
    unfold fi
    have a' : p w = false := a
    rw [if_neg (by rw [a']; decide)]
    rw [fi_eq (ws := t) (j := j) (fun i hi hj => h1 (i + 1) (Nat.succ_lt_succ hi) (Nat.succ_lt_succ hj)) (Nat.le_of_succ_le_succ h2) (fun hj => h3 (Nat.succ_lt_succ hj))]
theorem fi_le {α : Type} {p : α → Bool} : ∀ (ws : List α), fi p ws ≤ ws.length
  | [] => Nat.le_refl _
  | w :: t => by
    unfold fi
    split
    · exact Nat.zero_le _
    · exact Nat.succ_le_succ (fi_le t)
/-- ws: the conditions; to: where they lead, eight each -/
def bfs (eq : List Nat → List Nat → Bool) : Nat → List (List Nat) → List Nat → Option (List (List Nat) × List Nat)
  | 0, _, _ => none
  | f + 1, ws, to => if to.length < 8 * ws.length then
      (if fi (fun u => eq u (to.length % 8 :: ws.getD (to.length / 8) [])) ws < ws.length then bfs eq f ws (to ++ [fi (fun u => eq u (to.length % 8 :: ws.getD (to.length / 8) [])) ws])
       else if ws.length = 40 then none else bfs eq f (ws ++ [to.length % 8 :: ws.getD (to.length / 8) []]) (to ++ [ws.length]))
    else some (ws, to)
/-- the class's conditions: which sets are enough -/
def cw (many : Nat) (G : Nat → Nat → Nat → Prop) : List Nat → Nat → Prop
  | [], x => sb 1 x
  | l :: w, x => ∃ y, cw many G w y ∧ ∀ v, v < many → y.testBit v = true → G v l x
noncomputable def eqC (many : Nat) (G : Nat → Nat → Nat → Prop) (u w : List Nat) : Bool := @decide (∀ x, cw many G u x ↔ cw many G w x) (Classical.propDecidable _)
theorem eqC_t {many : Nat} {G : Nat → Nat → Nat → Prop} {u w : List Nat} : eqC many G u w = true ↔ ∀ x, cw many G u x ↔ cw many G w x := by
  unfold eqC
  exact @decide_eq_true_iff _ (Classical.propDecidable _)
theorem eqC_f {many : Nat} {G : Nat → Nat → Nat → Prop} {u w : List Nat} : eqC many G u w = false ↔ ¬ ∀ x, cw many G u x ↔ cw many G w x := by
  unfold eqC
  exact @decide_eq_false_iff_not _ (Classical.propDecidable _)
/-- the first letter goes to the same search by another comparison that agrees -/
theorem bfs_congr {eq eq' : List Nat → List Nat → Bool} (h : ∀ u w, eq u w = eq' u w) : eq = eq' := by
  funext u w
  exact h u w
