/-! ONE PURE PARSER. Fuel: 13 less the depth. An answer: the fault's position, or the tree and where it ends. -/
abbrev PR : Type := Nat ⊕ (Tr × Nat)
def bindP (r : PR) (f : Tr → Nat → PR) : PR := match r with
  | .inl e => .inl e
  | .inr q => f q.1 q.2
/-- a signal or a constant, as the reference codes it -/
def lit (c : Nat) : Option Nat := if c = 97 then some 1 else if c = 98 then some 2 else if c = 99 then some 4 else if c = 48 then some 0 else if c = 49 then some 8 else none
section PARSE
variable (tx : List Nat)
def pB : Nat → Nat → PR
  | 0, a => .inl a
  | f + 1, a => match lit (tx.getD a 0) with
    | some v => .inr (.inner 20 v 0 .leaf .leaf, a + 1)
    | none =>
      if tx.getD a 0 = 33 then bindP (pB f (a + 1)) fun t b => .inr (.inner 21 0 0 t .leaf, b)
      else if tx.getD a 0 = 40 then bindP (pB f (a + 1)) fun t b =>
        if tx.getD b 0 = 38 ∨ tx.getD b 0 = 124 then bindP (pB f (b + 1)) fun u c =>
          if tx.getD c 0 = 41 then .inr (.inner (if tx.getD b 0 = 38 then 22 else 23) 0 0 t u, c + 1) else .inl c
        else .inl b
      else .inl a
/-- what comes behind a unit -/
def pX (u : Tr) (b : Nat) : PR :=
  if tx.getD b 0 = 43 then .inr (.inner 12 0 0 u .leaf, b + 1)
  else if tx.getD b 0 = 42 then
    (if 49 ≤ tx.getD (b + 1) 0 ∧ tx.getD (b + 1) 0 ≤ 57 then
      (if tx.getD (b + 2) 0 = 45 then
        (if tx.getD (b + 1) 0 ≤ tx.getD (b + 3) 0 ∧ tx.getD (b + 3) 0 ≤ 57 then .inr (.inner 11 (tx.getD (b + 1) 0 - 48) (tx.getD (b + 3) 0 - 48) u .leaf, b + 4) else .inl (b + 3))
      else .inr (.inner 11 (tx.getD (b + 1) 0 - 48) (tx.getD (b + 1) 0 - 48) u .leaf, b + 2))
    else .inl (b + 1))
  else .inr (.inner 14 0 0 u .leaf, b)
/-- further sequences of a group -/
def pG (S : Nat → PR) : Nat → Tr → Nat → PR
  | 0, _, b => .inl b
  | n + 1, u, b => if tx.getD b 0 = 47 then bindP (S (b + 1)) fun s c => pG S n (.inner 10 0 0 u s) c
    else if tx.getD b 0 = 93 then .inr (.inner 13 0 0 u .leaf, b + 1) else .inl b
def pT (S B : Nat → PR) (a : Nat) : PR :=
  if tx.getD a 0 = 91 then bindP (S (a + 1)) fun s b => bindP (pG tx S 41 s b) fun u c => pX tx u c
  else bindP (B a) fun t b => pX tx (.inner 8 0 0 t .leaf) b
/-- further terms of a sequence -/
def pC (T : Nat → PR) : Nat → Tr → Nat → PR
  | 0, _, b => .inl b
  | n + 1, s, b => if tx.getD b 0 = 44 then bindP (T (b + 1)) fun t c => pC T n (.inner 9 0 0 s t) c else .inr (s, b)
def pS : Nat → Nat → PR
  | 0, a => .inl a
  | f + 1, a => bindP (pT tx (pS f) (pB tx f) a) fun s b => pC tx (pT tx (pS f) (pB tx f)) 41 s b
def pPr : Nat → Nat → PR
  | 0, a => .inl a
  | f + 1, a =>
    if tx.getD a 0 = 71 then bindP (pPr f (a + 1)) fun p b => .inr (.inner 1 0 0 p .leaf, b)
    else if tx.getD a 0 = 88 then bindP (pPr f (a + 1)) fun p b => .inr (.inner 2 0 0 p .leaf, b)
    else if tx.getD a 0 = 123 then bindP (pS tx f (a + 1)) fun s b =>
      if tx.getD b 0 = 125 then
        (if tx.getD (b + 1) 0 = 62 ∨ tx.getD (b + 1) 0 = 58 then bindP (pPr f (b + 2)) fun p c => .inr (.inner (if tx.getD (b + 1) 0 = 62 then 3 else 4) 0 0 s p, c) else .inl (b + 1))
      else .inl b
    else if tx.getD a 0 = 40 then bindP (pPr f (a + 1)) fun p b =>
      if tx.getD b 0 = 38 ∨ tx.getD b 0 = 124 ∨ tx.getD b 0 = 87 then bindP (pPr f (b + 1)) fun q c =>
        if tx.getD c 0 = 41 then .inr (.inner (if tx.getD b 0 = 38 then 5 else if tx.getD b 0 = 124 then 6 else 7) 0 0 p q, c + 1) else .inl c
      else .inl b
    else match lit (tx.getD a 0) with
      | some v => .inr (.inner 0 0 0 (.inner 20 v 0 .leaf .leaf) .leaf, a + 1)
      | none => if tx.getD a 0 = 33 then bindP (pB tx f (a + 1)) fun t b => .inr (.inner 0 0 0 (.inner 21 0 0 t .leaf) .leaf, b) else .inl a
/-- the whole text -/
def pW : PR := bindP (pPr tx 13 0) fun p b => if b = tx.length then .inr (p, b) else .inl b
end PARSE
theorem a_up2 {α : Type} (f : Nat → Nat → α) (a k : Nat) (u v : α) : a_up (a_up f a k u) a k v = a_up f a k v := by
  funext b j
  unfold a_up
  by_cases h : b = a
  · by_cases g : j = k
    · rw [if_pos h, if_pos g, if_pos h, if_pos g]
    · rw [if_pos h, if_neg g, if_pos h, if_neg g, if_pos h, if_neg g]
  · rw [if_neg h, if_neg h, if_neg h]
theorem sI_sI (z : aSt) (a k : Nat) (u v : Int32) : sI (sI z a k u) a k v = sI z a k v := by
  unfold sI
  rw [a_up2]
theorem sI_id {z : aSt} {a k : Nat} {v : Int32} (h : gI z a k = v) : sI z a k v = z := by
  have e : a_up z.2.1 a k v = z.2.1 := by
    funext b j
    unfold a_up
    by_cases g : b = a
    · by_cases g2 : j = k
      · rw [if_pos g, if_pos g2, g, g2]; exact h.symm
      · rw [if_pos g, if_neg g2]
    · rw [if_neg g]
  unfold sI
  rw [e]
