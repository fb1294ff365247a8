/-! Trees in the pool: which Parts they use -/
set_option maxRecDepth 100000
/-- Parts P stay -/
def sh2 (P : Nat → Prop) (z z' : aSt) : Prop := ∀ b, P b → okQ z b → okQ z' b ∧ (∀ k, gR z' b k = gR z b k) ∧ ∀ k, gI z' b k = gI z b k
theorem sh2_fr {P F : Nat → Prop} {z z' : aSt} (f : fr F z z') (h : ∀ b, P b → okQ z b → ¬ F b) : sh2 P z z' := fun b hb ho => ⟨okQ_fr ho f, fun k => (f.2.2 b ho.2.1 (h b hb ho) k).2.2, fun k => (f.2.2 b ho.2.1 (h b hb ho) k).1⟩
/-- Part s is the sequence T, made of Parts P -/
def rpS (z : aSt) (P : Nat → Prop) : Tr → Nat → Prop
  | .leaf, _ => False
  | .inner k a b l r, s => k = 8 ∧ (okQ z s ∧ P s) ∧ gR z s 0 = some 8 ∧ gI z s 3 = nI (bm l) ∨
    k = 9 ∧ (okQ z s ∧ P s) ∧ gR z s 0 = some 9 ∧ (∃ x, gR z s 1 = some x ∧ rpS z P l x) ∧ (∃ y, gR z s 2 = some y ∧ rpS z P r y) ∨
    k = 10 ∧ (okQ z s ∧ P s) ∧ gR z s 0 = some 10 ∧ (∃ x, gR z s 1 = some x ∧ rpS z P l x) ∧ (∃ y, gR z s 2 = some y ∧ rpS z P r y) ∨
    k = 11 ∧ (okQ z s ∧ P s) ∧ gR z s 0 = some 11 ∧ (∃ x, gR z s 1 = some x ∧ rpS z P l x) ∧ gI z s 4 = nI a ∧ gI z s 5 = nI b ∧ 1 ≤ a ∧ a ≤ b ∧ b ≤ 9 ∨
    k = 12 ∧ (okQ z s ∧ P s) ∧ gR z s 0 = some 12 ∧ (∃ x, gR z s 1 = some x ∧ rpS z P l x) ∨
    (k = 13 ∨ k = 14) ∧ rpS z P l s
theorem rpS_S {z : aSt} {P : Nat → Prop} : ∀ (T : Tr) (s : Nat), rpS z P T s → repS z T s
  | .leaf, _, h => h
  | .inner k a b l r, s, h => by
    have ihl := rpS_S (z := z) (P := P) l
    have ihr := rpS_S (z := z) (P := P) r
    rcases h with ⟨h1, h2, h3, h4⟩ | ⟨h1, h2, h3, ⟨x, h4, h5⟩, ⟨y, h6, h7⟩⟩ | ⟨h1, h2, h3, ⟨x, h4, h5⟩, ⟨y, h6, h7⟩⟩ | ⟨h1, h2, h3, ⟨x, h4, h5⟩, h6, h7, h8⟩ | ⟨h1, h2, h3, ⟨x, h4, h5⟩⟩ | ⟨h1, h2⟩
    · exact .inl ⟨h1, h2.1, h3, h4⟩
    · exact .inr (.inl ⟨h1, h2.1, h3, ⟨x, h4, ihl x h5⟩, ⟨y, h6, ihr y h7⟩⟩)
    · exact .inr (.inr (.inl ⟨h1, h2.1, h3, ⟨x, h4, ihl x h5⟩, ⟨y, h6, ihr y h7⟩⟩))
    · exact .inr (.inr (.inr (.inl ⟨h1, h2.1, h3, ⟨x, h4, ihl x h5⟩, h6, h7, h8⟩)))
    · exact .inr (.inr (.inr (.inr (.inl ⟨h1, h2.1, h3, ⟨x, h4, ihl x h5⟩⟩))))
    · exact .inr (.inr (.inr (.inr (.inr ⟨h1, ihl s h2⟩))))
theorem rpS_sh {z z' : aSt} {P Q : Nat → Prop} (f : sh2 P z z') (hQ : ∀ b, P b → Q b) : ∀ (T : Tr) (s : Nat), rpS z P T s → rpS z' Q T s
  | .leaf, _, h => h
  | .inner k a b l r, s, h => by
    have ihl := rpS_sh f hQ l
    have ihr := rpS_sh f hQ r
    have g : okQ z s ∧ P s → (okQ z' s ∧ Q s) ∧ (∀ k, gR z' s k = gR z s k) ∧ ∀ k, gI z' s k = gI z s k := fun o => ⟨⟨(f s o.2 o.1).1, hQ s o.2⟩, (f s o.2 o.1).2⟩
    rcases h with ⟨h1, h2, h3, h4⟩ | ⟨h1, h2, h3, ⟨x, h4, h5⟩, ⟨y, h6, h7⟩⟩ | ⟨h1, h2, h3, ⟨x, h4, h5⟩, ⟨y, h6, h7⟩⟩ | ⟨h1, h2, h3, ⟨x, h4, h5⟩, h6, h7, h8⟩ | ⟨h1, h2, h3, ⟨x, h4, h5⟩⟩ | ⟨h1, h2⟩
    · exact .inl ⟨h1, (g h2).1, ((g h2).2.1 0).trans h3, ((g h2).2.2 3).trans h4⟩
    · exact .inr (.inl ⟨h1, (g h2).1, ((g h2).2.1 0).trans h3, ⟨x, ((g h2).2.1 1).trans h4, ihl x h5⟩, ⟨y, ((g h2).2.1 2).trans h6, ihr y h7⟩⟩)
    · exact .inr (.inr (.inl ⟨h1, (g h2).1, ((g h2).2.1 0).trans h3, ⟨x, ((g h2).2.1 1).trans h4, ihl x h5⟩, ⟨y, ((g h2).2.1 2).trans h6, ihr y h7⟩⟩))
    · exact .inr (.inr (.inr (.inl ⟨h1, (g h2).1, ((g h2).2.1 0).trans h3, ⟨x, ((g h2).2.1 1).trans h4, ihl x h5⟩, ((g h2).2.2 4).trans h6, ((g h2).2.2 5).trans h7, h8⟩)))
    · exact .inr (.inr (.inr (.inr (.inl ⟨h1, (g h2).1, ((g h2).2.1 0).trans h3, ⟨x, ((g h2).2.1 1).trans h4, ihl x h5⟩⟩))))
    · exact .inr (.inr (.inr (.inr (.inr ⟨h1, ihl s h2⟩))))
/-- Part p is the property T, made of Parts P -/
def rpP (z : aSt) (P : Nat → Prop) : Tr → Nat → Prop
  | .leaf, _ => False
  | .inner k _ _ l r, p => (okQ z p ∧ P p) ∧ gR z p 0 = some k ∧ (k = 0 ∧ gI z p 3 = nI (bm l) ∨
    (k = 1 ∨ k = 2) ∧ gR z p 1 = some (vR z p 1) ∧ rpP z P l (vR z p 1) ∨
    (k = 3 ∨ k = 4) ∧ gR z p 1 = some (vR z p 1) ∧ rpS z P l (vR z p 1) ∧ gR z p 2 = some (vR z p 2) ∧ rpP z P r (vR z p 2) ∨
    (k = 5 ∨ k = 6 ∨ k = 7) ∧ gR z p 1 = some (vR z p 1) ∧ rpP z P l (vR z p 1) ∧ gR z p 2 = some (vR z p 2) ∧ rpP z P r (vR z p 2))
theorem rpP_P {z : aSt} {P : Nat → Prop} : ∀ (T : Tr) (p : Nat), rpP z P T p → repP z T p
  | .leaf, _, h => h
  | .inner k a b l r, p, ⟨h2, h3, h⟩ => by
    have ihl := rpP_P (z := z) (P := P) l
    have ihr := rpP_P (z := z) (P := P) r
    refine ⟨h2.1, h3, ?_⟩
    rcases h with ⟨h1, h4⟩ | ⟨h1, h4, h5⟩ | ⟨h1, h4, h5, h6, h7⟩ | ⟨h1, h4, h5, h6, h7⟩
    · exact .inl ⟨h1, h4⟩
    · exact .inr (.inl ⟨h1, h4, ihl _ h5⟩)
    · exact .inr (.inr (.inl ⟨h1, h4, rpS_S l _ h5, h6, ihr _ h7⟩))
    · exact .inr (.inr (.inr ⟨h1, h4, ihl _ h5, h6, ihr _ h7⟩))
theorem rpP_sh {z z' : aSt} {P Q : Nat → Prop} (f : sh2 P z z') (hQ : ∀ b, P b → Q b) : ∀ (T : Tr) (p : Nat), rpP z P T p → rpP z' Q T p ∧ pts z' T p = pts z T p
  | .leaf, _, h => ⟨h, rfl⟩
  | .inner k a b l r, p, ⟨h2, h3, h⟩ => by
    have ihl := rpP_sh f hQ l
    have ihr := rpP_sh f hQ r
    have g := f p h2.2 h2.1
    have v : ∀ k, vR z' p k = vR z p k := fun k => by unfold vR; rw [g.2.1 k]
    unfold rpP pts
    rw [v 1, v 2, g.2.1 0, g.2.1 1, g.2.1 2, g.2.2 3]
    rcases h with ⟨h1, h4⟩ | ⟨h1, h4, h5⟩ | ⟨h1, h4, h5, h6, h7⟩ | ⟨h1, h4, h5, h6, h7⟩
    · exact ⟨⟨⟨g.1, hQ p h2.2⟩, h3, .inl ⟨h1, h4⟩⟩, by rw [if_pos h1, if_pos h1]⟩
    · exact ⟨⟨⟨g.1, hQ p h2.2⟩, h3, .inr (.inl ⟨h1, h4, (ihl _ h5).1⟩)⟩, by rw [(ihl _ h5).2]; simp only [if_pos h1]⟩
    · have : ¬ k = 0 ∧ ¬ (k = 1 ∨ k = 2) := by omega
      exact ⟨⟨⟨g.1, hQ p h2.2⟩, h3, .inr (.inr (.inl ⟨h1, h4, rpS_sh f hQ l _ h5, h6, (ihr _ h7).1⟩))⟩, by rw [(ihr _ h7).2, if_neg this.1, if_neg this.2, if_pos h1, if_neg this.1, if_neg this.2, if_pos h1]⟩
    · exact ⟨⟨⟨g.1, hQ p h2.2⟩, h3, .inr (.inr (.inr ⟨h1, h4, (ihl _ h5).1, h6, (ihr _ h7).1⟩))⟩, by rw [(ihl _ h5).2, (ihr _ h7).2]⟩
theorem pts_P {z : aSt} {P : Nat → Prop} : ∀ (T : Tr) (p : Nat), rpP z P T p → ∀ q ∈ pts z T p, P q
  | .leaf, _, h => fun _ hq => (by cases hq)
  | .inner k a b l r, p, ⟨h2, h3, h⟩ => by
    have ihl := pts_P (z := z) (P := P) l
    have ihr := pts_P (z := z) (P := P) r
    intro q hq
    unfold pts at hq
    rcases List.mem_cons.mp hq with g | g
    · rw [g]; exact h2.2
    rcases h with ⟨h1, h4⟩ | ⟨h1, h4, h5⟩ | ⟨h1, h4, h5, h6, h7⟩ | ⟨h1, h4, h5, h6, h7⟩
    · rw [if_pos h1] at g; cases g
    · rw [if_neg (by omega), if_pos h1] at g; exact ihl _ h5 q g
    · rw [if_neg (by omega), if_neg (by omega), if_pos h1] at g; exact ihr _ h7 q g
    · rw [if_neg (by omega), if_neg (by omega), if_neg (by omega)] at g
      rcases List.mem_append.mp g with g | g
      · exact ihl _ h5 q g
      · exact ihr _ h7 q g
theorem ix_app {ps t : List Nat} {lo hi b : Nat} (h : ix ps lo hi b) : ix (ps ++ t) lo hi b := by
  obtain ⟨i, h1, h2, h3, h4⟩ := h
  exact ⟨i, h1, h2, (by rw [List.length_append]; omega), by rw [gd_left h3]; exact h4⟩
theorem ix_le {ps : List Nat} {lo hi lo' hi' b : Nat} (h : ix ps lo hi b) (h1 : lo' ≤ lo) (h2 : hi ≤ hi') : ix ps lo' hi' b := by
  obtain ⟨i, g1, g2, g3, g4⟩ := h
  exact ⟨i, by omega, by omega, g3, g4⟩
theorem ix_dis {ps : List Nat} {lo hi lo' hi' b : Nat} (hn : ps.Nodup) (h : ix ps lo hi b) (g : ix ps lo' hi' b) (hh : hi ≤ lo' ∨ hi' ≤ lo) : False := by
  obtain ⟨i, h1, h2, h3, h4⟩ := h
  obtain ⟨j, g1, g2, g3, g4⟩ := g
  exact nd_get hn h3 g3 (by omega) (h4.trans g4.symm)
/-- Parts below the count stay while reading goes on -/
theorem rR_sh {n m n' : Nat} {z z' : aSt} {ps ps' : List Nat} {e c e' c' lo : Nat} (h : rR n z ps e c z' n' ps' e' c') (p : pq z m ps e c) : sh2 (ix ps lo n) z z' := by
  refine sh2_fr h.2.1 fun b hb ho g => ?_
  rcases g with g | g | g | g
  · have := ho.2.2; omega
  · have := ho.2.2; omega
  · have := ho.1
    rw [g, p.1.2.2.2.2.2.1] at this
    cases this
  · exact ix_dis p.2.2.2.2.2.2.2.1 hb g (.inl (Nat.le_refl _))
theorem rR_ix {n n' : Nat} {z z' : aSt} {ps ps' : List Nat} {e c e' c' lo hi b : Nat} (h : rR n z ps e c z' n' ps' e' c') (g : ix ps lo hi b) : ix ps' lo hi b := by
  obtain ⟨t, ht, _⟩ := h.2.2.2.2.1
  rw [ht]
  exact ix_app g
/-! where the parser's answers lie -/
theorem tx_le {tx : List Nat} {a c : Nat} (h : tx.getD a 0 = c) (hc : c ≠ 0) : a + 1 ≤ tx.length := tx_in h hc
theorem lit_ne {c v : Nat} (h : lit c = some v) : c ≠ 0 := by
  intro g
  rw [g] at h
  cases h
theorem bindP_inr {r : PR} {f : Tr → Nat → PR} {T : Tr} {b : Nat} (h : bindP r f = .inr (T, b)) : ∃ t a, r = .inr (t, a) ∧ f t a = .inr (T, b) := by
  match r, h with
  | .inr (t, a), h => exact ⟨t, a, rfl, h⟩
theorem bindP_inl {r : PR} {f : Tr → Nat → PR} {b : Nat} (h : bindP r f = .inl b) : r = .inl b ∨ ∃ t a, r = .inr (t, a) ∧ f t a = .inl b := by
  match r, h with
  | .inr (t, a), h => exact .inr ⟨t, a, rfl, h⟩
  | .inl e, h => exact .inl h
/-- a result lies between a and the text's end; more than a if it is one -/
def rng (tx : List Nat) (a : Nat) (r : PR) : Prop := match r with
  | .inl e => a ≤ e ∧ e ≤ tx.length
  | .inr q => a + 1 ≤ q.2 ∧ q.2 ≤ tx.length
theorem rng_b {tx : List Nat} {a a' : Nat} {r : PR} {f : Tr → Nat → PR} (h : rng tx a' r) (ha : a ≤ a') (hf : ∀ t b, a' + 1 ≤ b → b ≤ tx.length → rng tx a (f t b)) : rng tx a (bindP r f) := by
  match r, h with
  | .inl e, h => exact ⟨by have := h.1; omega, h.2⟩
  | .inr (t, b), h => exact hf t b h.1 h.2
theorem rng_B (tx : List Nat) : ∀ f a, a ≤ tx.length → rng tx a (pB tx f a)
  | 0, a, ha => ⟨Nat.le_refl _, ha⟩
  | f + 1, a, ha => by
    unfold pB
    split
    · next v hv =>
      exact ⟨Nat.le_refl _, tx_le rfl (lit_ne hv)⟩
    · split
      · next h =>
        exact rng_b (rng_B tx f (a + 1) (tx_le h (by decide))) (by omega) fun t b h1 h2 => ⟨by show a + 1 ≤ b; omega, h2⟩
      · split
        · next h =>
          refine rng_b (rng_B tx f (a + 1) (tx_le h (by decide))) (by omega) fun t b h1 h2 => ?_
          split
          · next g =>
            have hb : b + 1 ≤ tx.length := by rcases g with g | g <;> exact tx_le g (by decide)
            refine rng_b (rng_B tx f (b + 1) hb) (by omega) fun u c h3 h4 => ?_
            split
            · next q => exact ⟨by show a + 1 ≤ c + 1; omega, tx_le q (by decide)⟩
            · exact ⟨by omega, h4⟩
          · exact ⟨by omega, h2⟩
        · exact ⟨Nat.le_refl _, ha⟩
theorem rng_X (tx : List Nat) (u : Tr) (a b : Nat) (h1 : a + 1 ≤ b) (h2 : b ≤ tx.length) : rng tx a (pX tx u b) := by
  unfold pX
  split
  · next h => exact ⟨by show a + 1 ≤ b + 1; omega, tx_le h (by decide)⟩
  · split
    · next h =>
      have := tx_le h (by decide)
      split
      · next g =>
        have hb : b + 1 + 1 ≤ tx.length := tx_le rfl (by omega)
        split
        · next q =>
          have hb2 : b + 2 + 1 ≤ tx.length := tx_le q (by decide)
          split
          · next w =>
            have hb3 : b + 3 + 1 ≤ tx.length := tx_le rfl (by omega)
            exact ⟨by show a + 1 ≤ b + 4; omega, hb3⟩
          · exact ⟨by omega, hb2⟩
        · exact ⟨by show a + 1 ≤ b + 2; omega, hb⟩
      · exact ⟨by omega, this⟩
    · exact ⟨h1, h2⟩
theorem rng_G (tx : List Nat) {S : Nat → PR} (hS : ∀ a, a ≤ tx.length → rng tx a (S a)) : ∀ n u b a, a + 1 ≤ b → b ≤ tx.length → rng tx a (pG tx S n u b)
  | 0, u, b, a, h1, h2 => ⟨by omega, h2⟩
  | n + 1, u, b, a, h1, h2 => by
    unfold pG
    split
    · next h => exact rng_b (hS (b + 1) (tx_le h (by decide))) (by omega) fun t c h3 h4 => rng_G tx hS n _ c a (by omega) h4
    · split
      · next h => exact ⟨by show a + 1 ≤ b + 1; omega, tx_le h (by decide)⟩
      · exact ⟨by omega, h2⟩
theorem rng_T (tx : List Nat) {S B : Nat → PR} (hS : ∀ a, a ≤ tx.length → rng tx a (S a)) (hB : ∀ a, a ≤ tx.length → rng tx a (B a)) (a : Nat) (ha : a ≤ tx.length) : rng tx a (pT tx S B a) := by
  unfold pT
  split
  · next h =>
    refine rng_b (hS (a + 1) (tx_le h (by decide))) (by omega) fun t b h1 h2 => ?_
    refine rng_b (rng_G tx hS 41 t b a (by omega) h2) (Nat.le_refl _) fun u c h3 h4 => rng_X tx u a c h3 h4
  · exact rng_b (hB a ha) (Nat.le_refl _) fun t b h1 h2 => rng_X tx _ a b h1 h2
theorem rng_C (tx : List Nat) {T : Nat → PR} (hT : ∀ a, a ≤ tx.length → rng tx a (T a)) : ∀ n s b a, a + 1 ≤ b → b ≤ tx.length → rng tx a (pC tx T n s b)
  | 0, u, b, a, h1, h2 => ⟨by omega, h2⟩
  | n + 1, u, b, a, h1, h2 => by
    unfold pC
    split
    · next h => exact rng_b (hT (b + 1) (tx_le h (by decide))) (by omega) fun t c h3 h4 => rng_C tx hT n _ c a (by omega) h4
    · exact ⟨h1, h2⟩
theorem rng_S (tx : List Nat) : ∀ f a, a ≤ tx.length → rng tx a (pS tx f a)
  | 0, a, ha => ⟨Nat.le_refl _, ha⟩
  | f + 1, a, ha => by
    unfold pS
    exact rng_b (rng_T tx (rng_S tx f) (rng_B tx f) a ha) (Nat.le_refl _) fun t b h1 h2 => rng_C tx (fun a ha => rng_T tx (rng_S tx f) (rng_B tx f) a ha) 41 t b a h1 h2
