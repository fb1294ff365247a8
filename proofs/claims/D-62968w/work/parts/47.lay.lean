/-! Duties.lay -/
set_option maxRecDepth 100000
/-- a Part of a text -/
def okQ (z : aSt) (s : Nat) : Prop := gT z s = (10, 0) ∧ lv z s ∧ 468 ≤ s
/-- Part s is the sequence T -/
def repS (z : aSt) : Tr → Nat → Prop
  | .leaf, _ => False
  | .inner k a b l r, s => k = 8 ∧ okQ z s ∧ gR z s 0 = some 8 ∧ gI z s 3 = nI (bm l) ∨
    k = 9 ∧ okQ z s ∧ gR z s 0 = some 9 ∧ (∃ x, gR z s 1 = some x ∧ repS z l x) ∧ (∃ y, gR z s 2 = some y ∧ repS z r y) ∨
    k = 10 ∧ okQ z s ∧ gR z s 0 = some 10 ∧ (∃ x, gR z s 1 = some x ∧ repS z l x) ∧ (∃ y, gR z s 2 = some y ∧ repS z r y) ∨
    k = 11 ∧ okQ z s ∧ gR z s 0 = some 11 ∧ (∃ x, gR z s 1 = some x ∧ repS z l x) ∧ gI z s 4 = nI a ∧ gI z s 5 = nI b ∧ 1 ≤ a ∧ a ≤ b ∧ b ≤ 9 ∨
    k = 12 ∧ okQ z s ∧ gR z s 0 = some 12 ∧ (∃ x, gR z s 1 = some x ∧ repS z l x) ∨
    (k = 13 ∨ k = 14) ∧ repS z l s
/-- texts' Parts stay when only cells below 468 are written -/
theorem okQ_fr {F : Nat → Prop} {z z' : aSt} {s : Nat} (h : okQ z s) (f : fr F z z') : okQ z' s := ⟨(f.2.1 s h.2.1).trans h.1, lv_fr f h.2.1, h.2.2⟩
theorem repS_fr {F : Nat → Prop} {z z' : aSt} (f : fr F z z') (hF : ∀ b, 468 ≤ b → ¬ F b) : ∀ (T : Tr) (s : Nat), repS z T s → repS z' T s
  | .leaf, _, h => h
  | .inner k a b l r, s, h => by
    have g : okQ z s → ∀ k, gI z' s k = gI z s k ∧ gR z' s k = gR z s k := fun o k => ⟨(f.2.2 s o.2.1 (hF s o.2.2) k).1, (f.2.2 s o.2.1 (hF s o.2.2) k).2.2⟩
    have ihl := repS_fr f hF l
    have ihr := repS_fr f hF r
    rcases h with ⟨h1, h2, h3, h4⟩ | ⟨h1, h2, h3, ⟨x, h4, h5⟩, ⟨y, h6, h7⟩⟩ | ⟨h1, h2, h3, ⟨x, h4, h5⟩, ⟨y, h6, h7⟩⟩ | ⟨h1, h2, h3, ⟨x, h4, h5⟩, h6, h7, h8⟩ | ⟨h1, h2, h3, ⟨x, h4, h5⟩⟩ | ⟨h1, h2⟩
    · exact .inl ⟨h1, okQ_fr h2 f, (g h2 0).2.trans h3, (g h2 3).1.trans h4⟩
    · exact .inr (.inl ⟨h1, okQ_fr h2 f, (g h2 0).2.trans h3, ⟨x, (g h2 1).2.trans h4, ihl x h5⟩, ⟨y, (g h2 2).2.trans h6, ihr y h7⟩⟩)
    · exact .inr (.inr (.inl ⟨h1, okQ_fr h2 f, (g h2 0).2.trans h3, ⟨x, (g h2 1).2.trans h4, ihl x h5⟩, ⟨y, (g h2 2).2.trans h6, ihr y h7⟩⟩))
    · exact .inr (.inr (.inr (.inl ⟨h1, okQ_fr h2 f, (g h2 0).2.trans h3, ⟨x, (g h2 1).2.trans h4, ihl x h5⟩, (g h2 4).1.trans h6, (g h2 5).1.trans h7, h8⟩)))
    · exact .inr (.inr (.inr (.inr (.inl ⟨h1, okQ_fr h2 f, (g h2 0).2.trans h3, ⟨x, (g h2 1).2.trans h4, ihl x h5⟩⟩))))
    · exact .inr (.inr (.inr (.inr (.inr ⟨h1, ihl s h2⟩))))
/-- the places fo, ms lie in the Duties' arrays from k on, behind q -/
def seqAt (z : aSt) (k : Nat) (fo ms : List Nat) (q : Nat) : Prop := ∀ i, i < fo.length → ent z (k + i) = (nI (ms.getD i 0), nI (fo.getD i 0 * 2 ^ k), 0, some q, none)
/-- lay's end: places fo, ms from k on; the answer v -/
def layG (z : aSt) (k : Nat) (fo ms : List Nat) (q : Nat) (z' : aSt) : Prop := k + fo.length ≤ 9 ∧ gI z' 104 0 = nI (k + fo.length) ∧ (∀ i, i < k → ent z' i = ent z i) ∧ seqAt z' k fo ms q ∧ frD z z' ∧ gZ z' = gZ z ∧ gS z' = gS z
/-- it gives up: too many -/
def layX (z : aSt) (o : aRes) (z' : aSt) : Prop := ∃ x, o = .inr x ∧ gT z' x = (14, 0) ∧ frD z z' ∧ gZ z' = gZ z + 1 ∧ gS z' = gS z + 6
def layQ (z : aSt) (k : Nat) (r : SQ) (q : Nat) (o : aRes) (z' : aSt) : Prop := (layG z k (sfo r) (sms r) q z' ∧ o = .inl (some (.int (nI (sFi r * 2 ^ k + 512 * (sLa r * 2 ^ k)))))) ∨ (9 < k + (sfo r).length ∧ layX z o z')
theorem tb_mul {x k i : Nat} : (x * 2 ^ k).testBit i = (decide (k ≤ i) && x.testBit (i - k)) := by
  rw [Nat.mul_comm, Nat.testBit_two_pow_mul]
theorem or_mul (a b k : Nat) : (a ||| b) * 2 ^ k = a * 2 ^ k ||| b * 2 ^ k := by
  have := Nat.shiftLeft_or_distrib (a := a) (b := b) (i := k)
  simp only [Nat.shiftLeft_eq] at this
  exact this
theorem m512 {x w k : Nat} (h : x < 2 ^ w) (hk : k + w ≤ 9) : x * 2 ^ k < 512 := lt_up (lt_sh h) (b := 9) (by omega)
/-- two stretches one behind the other -/
theorem seq_app {z : aSt} {k q : Nat} {fo1 ms1 fo2 ms2 : List Nat} (h1 : seqAt z k fo1 ms1 q) (h2 : seqAt z (k + fo1.length) fo2 ms2 q) (hm : ms1.length = fo1.length) : seqAt z k (fo1 ++ shL fo1.length fo2) (ms1 ++ ms2) q := by
  intro i hi
  rw [List.length_append, shL_len] at hi
  by_cases c : i < fo1.length
  · rw [gd_app, gd_app, hm, if_pos c, if_pos c]
    exact h1 i c
  · rw [gd_app, gd_app, hm, if_neg c, if_neg c, shL_get (by omega)]
    have := h2 (i - fo1.length) (by omega)
    rw [show k + fo1.length + (i - fo1.length) = k + i by omega] at this
    rw [this, Nat.mul_assoc, ← Nat.pow_add, Nat.add_comm fo1.length k]
/-- follow, within a stretch -/
theorem seq_fol {z z' : aSt} {k q m L F : Nat} {fo ms : List Nat} (h : seqAt z k fo ms q) (f : frI (fun b => b = 107) z z') (hk : k + fo.length ≤ m) (hI : ∀ i, gI z' 107 i = if i < m ∧ (L * 2 ^ k).testBit i = true then gI z 107 i ||| nI (F * 2 ^ k) else gI z 107 i) : seqAt z' k (folL L F fo) ms q := by
  intro i hi
  rw [folL_len] at hi
  have e := h i hi
  unfold ent at e ⊢
  rw [f.2.2.2.2.2 106 (by decide), f.2.2.2.2.2 108 (by decide), f.2.2.1, hI]
  have e2 := (Prod.mk.inj (Prod.mk.inj e).2).1
  rw [tb_mul, decide_eq_true (show k ≤ k + i by omega), Bool.true_and, Nat.add_sub_cancel_left, folL_get hi]
  by_cases c : L.testBit i = true
  · rw [if_pos ⟨by omega, c⟩, if_pos c, e2, nI_or, ← or_mul]
    rw [Prod.mk.injEq, Prod.mk.injEq] at e ⊢
    exact ⟨e.1, rfl, e.2.2⟩
  · rw [if_neg (fun g => c g.2), if_neg c, Nat.or_zero]
    exact e
/-- follow leaves what lies before -/
theorem fol_old {z z' : aSt} {k m L F : Nat} (f : frI (fun b => b = 107) z z') (hI : ∀ i, gI z' 107 i = if i < m ∧ (L * 2 ^ k).testBit i = true then gI z 107 i ||| nI F else gI z 107 i) : ∀ i, i < k → ent z' i = ent z i := by
  intro i hi
  unfold ent
  rw [f.2.2.2.2.2 106 (by decide), f.2.2.2.2.2 108 (by decide), f.2.2.1, hI, tb_mul, decide_eq_false (show ¬ k ≤ i by omega), Bool.false_and, if_neg (fun g => by cases g.2)]
/-- follow leaves what lies behind -/
theorem fol_new {z z' : aSt} {k w m L F : Nat} (hL : L < 2 ^ w) (f : frI (fun b => b = 107) z z') (hI : ∀ i, gI z' 107 i = if i < m ∧ (L * 2 ^ k).testBit i = true then gI z 107 i ||| nI F else gI z 107 i) : ∀ i, k + w ≤ i → ent z' i = ent z i := by
  intro i hi
  unfold ent
  rw [f.2.2.2.2.2 106 (by decide), f.2.2.2.2.2 108 (by decide), f.2.2.1, hI, Nat.testBit_lt_two_pow (lt_up (lt_sh hL) (by omega)), if_neg (fun g => by cases g.2)]
theorem frD_fol {z z' : aSt} (f : frI (fun b => b = 107) z z') : frD z z' := ⟨fr_mono f.fr fun b _ g => by omega, fun k => by rw [f.2.2.1], fun k _ => f.2.2.2.2.2 104 (by decide) k, fun i => .inl (by rw [f.2.2.1])⟩
