/-! Circuit.value: the tree answers what is wanted -/
set_option maxRecDepth 100000
theorem ev_nde {b cd lt i : Nat} {l r : Tr} : evT b cd lt (nde i l r) = if i < 3 then (if lt.testBit i = true then evT b cd lt r else evT b cd lt l) else (if cd.testBit (b - 1 - (i - 3)) = true then evT b cd lt r else evT b cd lt l) := by
  show (if i + 2 = 0 then _ else if i + 2 = 1 then _ else _) = _
  rw [if_neg (by omega), if_neg (by omega)]
  rfl
theorem ev_ndr {b cd lt i : Nat} {l r : Tr} : evT b cd lt (ndr i l r) = if i < 3 then (if lt.testBit i = true then evT b cd lt r else evT b cd lt l) else (if cd.testBit (b - 1 - (i - 3)) = true then evT b cd lt r else evT b cd lt l) := by
  by_cases c : l = r
  · rw [ndr_eq c, ← c]
    split <;> split <;> rfl
  · rw [ndr_ne c, ev_nde]
theorem ev_lo {b cd lt i : Nat} {l r : Tr} (h : i < 3) : evT b cd lt (ndr i l r) = if lt.testBit i = true then evT b cd lt r else evT b cd lt l := by
  rw [ev_ndr, if_pos h]
theorem ev_hi {b cd lt i : Nat} {l r : Tr} (h : ¬ i < 3) : evT b cd lt (ndr i l r) = if cd.testBit (b - 1 - (i - 3)) = true then evT b cd lt r else evT b cd lt l := by
  rw [ev_ndr, if_neg h]
theorem gw_lo {W : Nat → Nat → Bool} {b m a q : Nat} (h : b + 2 - m < 3) : gw W b (m + 1) a q = ndr (b + 2 - m) (gw W b m a q) (gw W b m (a ||| 2 ^ (b + 2 - m)) q) := by
  show ndr _ _ (if _ then _ else _) = _
  rw [if_pos h]
theorem gw_hi {W : Nat → Nat → Bool} {b m a q : Nat} (h : ¬ b + 2 - m < 3) : gw W b (m + 1) a q = ndr (b + 2 - m) (gw W b m a q) (gw W b m a (q ||| 2 ^ m)) := by
  show ndr _ _ (if _ then _ else _) = _
  rw [if_neg h]
theorem mod_or {x m : Nat} : x % 2 ^ (m + 1) = (x % 2 ^ m) ||| (if x.testBit m = true then 2 ^ m else 0) := by
  apply Nat.eq_of_testBit_eq
  intro i
  rw [Nat.testBit_or, Nat.testBit_mod_two_pow, Nat.testBit_mod_two_pow]
  by_cases c : i = m
  · subst c
    rw [decide_eq_true (Nat.lt_succ_self i), decide_eq_false (Nat.lt_irrefl i)]
    cases h : x.testBit i
    · rw [if_neg (by decide), Nat.zero_testBit]; rfl
    · rw [if_pos rfl, Nat.testBit_two_pow_self]; rfl
  · have e : (if x.testBit m = true then 2 ^ m else 0).testBit i = false := by
      split
      · exact Nat.testBit_two_pow_of_ne (fun h => c h.symm)
      · exact Nat.zero_testBit i
    rw [e, Bool.or_false]
    by_cases c2 : i < m
    · rw [decide_eq_true (show i < m + 1 by omega), decide_eq_true c2]
    · rw [decide_eq_false (show ¬ i < m + 1 by omega), decide_eq_false c2]
theorem ev_code {W : Nat → Nat → Bool} {b cd lt : Nat} : ∀ (m a q : Nat), m ≤ b → evT b cd lt (gw W b m a q) = W (q ||| cd % 2 ^ m) a
  | 0, a, q, _ => by
    rw [Nat.pow_zero, Nat.mod_one, Nat.or_zero]
    show evT b cd lt (if W q a = true then c1 else c0) = _
    cases W q a <;> rfl
  | m + 1, a, q, h => by
    rw [gw_hi (by omega), ev_hi (by omega), show b - 1 - (b + 2 - m - 3) = m by omega, ev_code m a q (by omega), ev_code m a (q ||| 2 ^ m) (by omega), mod_or]
    cases cd.testBit m
    · rw [if_neg (by decide), if_neg (by decide), Nat.or_zero]
    · rw [if_pos rfl, if_pos rfl, Nat.or_assoc, Nat.or_comm (2 ^ m)]
theorem ev_all {W : Nat → Nat → Bool} {b cd lt : Nat} (hl : lt < 8) (hc : cd < 2 ^ b) : evT b cd lt (gw W b (3 + b) 0 0) = W cd lt := by
  have e2 : ∀ a q, evT b cd lt (gw W b (b + 1) a q) = W (q ||| cd % 2 ^ b) (a ||| if lt.testBit 2 = true then 4 else 0) := fun a q => by
    rw [gw_lo (by omega), ev_lo (by omega), show b + 2 - b = 2 by omega, ev_code b _ _ (Nat.le_refl _), ev_code b _ _ (Nat.le_refl _)]
    cases lt.testBit 2
    · rw [if_neg (by decide), if_neg (by decide), Nat.or_zero]
    · rw [if_pos rfl, if_pos rfl]
  have e1 : ∀ a q, evT b cd lt (gw W b (b + 2) a q) = W (q ||| cd % 2 ^ b) ((a ||| if lt.testBit 1 = true then 2 else 0) ||| if lt.testBit 2 = true then 4 else 0) := fun a q => by
    rw [gw_lo (m := b + 1) (by omega), ev_lo (by omega), show b + 2 - (b + 1) = 1 by omega, e2, e2]
    generalize (if lt.testBit 2 = true then 4 else 0) = q2
    cases lt.testBit 1
    · rw [if_neg Bool.false_ne_true, if_neg Bool.false_ne_true, Nat.or_zero]
    · rw [if_pos rfl, if_pos rfl]
  have e0 : evT b cd lt (gw W b (b + 3) 0 0) = W (0 ||| cd % 2 ^ b) (((0 ||| if lt.testBit 0 = true then 1 else 0) ||| if lt.testBit 1 = true then 2 else 0) ||| if lt.testBit 2 = true then 4 else 0) := by
    rw [gw_lo (m := b + 2) (by omega), ev_lo (by omega), Nat.sub_self, e1, e1]
    generalize (if lt.testBit 2 = true then 4 else 0) = q2
    generalize (if lt.testBit 1 = true then 2 else 0) = q1
    cases lt.testBit 0
    · rfl
    · rfl
  rw [Nat.add_comm 3 b, e0, Nat.zero_or, Nat.mod_eq_of_lt hc]
  congr 1
  have key : ∀ lt, lt < 8 → ((0 ||| if lt.testBit 0 = true then 1 else 0) ||| if lt.testBit 1 = true then 2 else 0) ||| (if lt.testBit 2 = true then 4 else 0) = lt := by decide
  exact key lt hl
theorem x_value {d many o cd lt : Nat} {out : List (Option Nat)} {ps : List Nat} {e c : Nat} {z : aSt} (h : cirP z many out ps e c) (ho : o ≤ bitsOf many) (hl : lt < 8) (hc : cd < 2 ^ bitsOf many) : aW (d + 19) 83 [.ref 345, .int (nI o), .int (nI cd), .int (nI lt)] z (fun r z' => r = .inl (some (.int (bI (wnt many out o cd lt)))) ∧ ∃ (gts' : List Tr) (ps' : List Nat) (e' c' : Nat), mkD many out gts' ps' e' c' z' ∧ mkF z ps e c z' ps' e' c') := by
  have hT : (gT z 345).1 = 7 := by
    rcases h with ⟨_, hX, _⟩ | ⟨gts, hD⟩
    · rw [hX.2.2.1.1]
    · rw [hD.1.1.2.2.1.1]
  refine w_of (k := 83) (m := aM_X7_value) rfl rfl ?_
  refine w_nx (pc' := 1) rfl ?_
  obtain ⟨r, z1, e1, q1, gts', ps', e', c', q2, q3⟩ := x_make (d := d) h
  subst q1
  refine w_cal (pc' := 4) rfl (a_cv0 rfl rfl rfl (hT) rfl rfl) (e1) ?_
  have cs := q2.1.1.2.2.1
  have hb := bits_rng many q2.1.1.2.1.2.1
  have hp : 2 ^ bitsOf many ≤ 2 ^ 6 := Nat.pow_le_pow_right (by decide) hb.2.1
  have hT1 : (gT z1 345).1 = 7 := by rw [cs.1]
  obtain ⟨g, g1, g2⟩ := q2.1.2.2.1 o (by omega)
  refine w_nx (pc' := 5) rfl ?_
  refine w_getR rfl rfl (hT1) (congrArg va_rf (cs.2.2.2.2.1)) rfl ?_
  refine w_nx (pc' := 9) rfl ?_
  refine w_ald rfl (fun _ _ _ _ _ _ => rfl) (cs.2.2.2.2.2.2.2.1) rfl (rfl) (by omega) (by decide) (congrArg va_rf (g1)) rfl ?_
  refine w_nx (pc' := 12) rfl ?_
  refine w_imp ?_ (x_valueL (o := o) q2 hl (show cd < 64 by omega) (trO many out o) g _ g2)
  rintro r z' ⟨rfl, rfl⟩
  refine ⟨?_, gts', ps', e', c', q2, q3⟩
  unfold trO
  rw [ev_all hl hc]
