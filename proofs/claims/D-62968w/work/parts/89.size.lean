/-! the height of what is read -/
set_option maxRecDepth 100000
/-- three nodes at most for each character -/
def szr (a : Nat) (r : PR) : Prop := match r with
  | .inl _ => True
  | .inr q => ht q.1 + 3 * a ≤ 3 * q.2
theorem ht_in (k a b : Nat) (l r : Tr) : ht (.inner k a b l r) = ht l + ht r + 1 := rfl
theorem ht_lf : ht (.leaf : Tr) = 0 := rfl
theorem szr_b {a' : Nat} {r : PR} {f : Tr → Nat → PR} {a : Nat} (h : szr a' r) (hf : ∀ t b, ht t + 3 * a' ≤ 3 * b → szr a (f t b)) : szr a (bindP r f) := by
  match r, h with
  | .inl e, _ => exact trivial
  | .inr (t, b), h => exact hf t b h
theorem szr_B (tx : List Nat) : ∀ f a, szr a (pB tx f a)
  | 0, a => trivial
  | f + 1, a => by
    unfold pB
    split
    · show ht _ + 3 * a ≤ 3 * (a + 1)
      rw [ht_in, ht_lf]; omega
    · split
      · refine szr_b (szr_B tx f (a + 1)) fun t b h => ?_
        show ht _ + 3 * a ≤ 3 * b
        rw [ht_in, ht_lf]; omega
      · split
        · refine szr_b (szr_B tx f (a + 1)) fun t b h => ?_
          split
          · refine szr_b (szr_B tx f (b + 1)) fun u c h2 => ?_
            split
            · show ht _ + 3 * a ≤ 3 * (c + 1)
              rw [ht_in]; omega
            · exact trivial
          · exact trivial
        · exact trivial
theorem szr_X (tx : List Nat) (u : Tr) (a b : Nat) (h : ht u + 3 * a + 1 ≤ 3 * b) : szr a (pX tx u b) := by
  unfold pX
  split
  · show ht _ + 3 * a ≤ 3 * (b + 1)
    rw [ht_in, ht_lf]; omega
  · split
    · split
      · split
        · split
          · show ht _ + 3 * a ≤ 3 * (b + 4)
            rw [ht_in, ht_lf]; omega
          · exact trivial
        · show ht _ + 3 * a ≤ 3 * (b + 2)
          rw [ht_in, ht_lf]; omega
      · exact trivial
    · show ht _ + 3 * a ≤ 3 * b
      rw [ht_in, ht_lf]; omega
def szr2 (a : Nat) (r : PR) : Prop := match r with
  | .inl _ => True
  | .inr q => ht q.1 + 3 * a + 2 ≤ 3 * q.2
theorem szr_G (tx : List Nat) {S : Nat → PR} (hS : ∀ a, szr a (S a)) : ∀ n u b a, ht u + 3 * a ≤ 3 * b → szr2 a (pG tx S n u b)
  | 0, u, b, a, h => trivial
  | n + 1, u, b, a, h => by
    unfold pG
    split
    · have h2 := hS (b + 1)
      cases hs : S (b + 1) with
      | inl x => exact trivial
      | inr q =>
        rw [hs] at h2
        have h2' : ht q.1 + 3 * (b + 1) ≤ 3 * q.2 := h2
        exact szr_G tx hS n (.inner 10 0 0 u q.1) q.2 a (by rw [ht_in]; omega)
    · split
      · show ht _ + 3 * a + 2 ≤ 3 * (b + 1)
        rw [ht_in, ht_lf]; omega
      · exact trivial
theorem szr_T (tx : List Nat) {S B : Nat → PR} (hS : ∀ a, szr a (S a)) (hB : ∀ a, ∀ t b, B a = .inr (t, b) → ht t + 3 * a + 2 ≤ 3 * b) (a : Nat) : szr a (pT tx S B a) := by
  unfold pT
  split
  · refine szr_b (hS (a + 1)) fun t b h => ?_
    have h2 := szr_G tx hS 41 t b (a + 1) h
    cases hg : pG tx S 41 t b with
    | inl x => exact trivial
    | inr q =>
      rw [hg] at h2
      have h2' : ht q.1 + 3 * (a + 1) + 2 ≤ 3 * q.2 := h2
      exact szr_X tx q.1 a q.2 (by omega)
  · cases hb : B a with
    | inl x => exact trivial
    | inr q =>
      have := hB a q.1 q.2 hb
      exact szr_X tx _ a q.2 (by rw [ht_in, ht_lf]; omega)
theorem szr_C (tx : List Nat) {T : Nat → PR} (hT : ∀ a, szr a (T a)) : ∀ n s b a, ht s + 3 * a ≤ 3 * b → szr a (pC tx T n s b)
  | 0, u, b, a, h => trivial
  | n + 1, u, b, a, h => by
    unfold pC
    split
    · refine szr_b (hT (b + 1)) fun t c h2 => szr_C tx hT n _ c a (by rw [ht_in]; omega)
    · exact h
/-- a boolean has two nodes for each character at most, and more room for one -/
theorem szr_B2 (tx : List Nat) : ∀ f a t b, pB tx f a = .inr (t, b) → ht t + 3 * a + 2 ≤ 3 * b
  | 0, a, t, b, h => by cases h
  | f + 1, a, t, b, h => by
    unfold pB at h
    split at h
    · injection h with h; injection h with h1 h2
      rw [← h1, ← h2, ht_in, ht_lf]; omega
    · split at h
      · obtain ⟨t1, b1, e1, e2⟩ := bindP_inr h
        have := szr_B2 tx f (a + 1) t1 b1 e1
        injection e2 with e2; injection e2 with h1 h2
        rw [← h1, ← h2, ht_in, ht_lf]; omega
      · split at h
        · obtain ⟨t1, b1, e1, e2⟩ := bindP_inr h
          have i1 := szr_B2 tx f (a + 1) t1 b1 e1
          split at e2
          · obtain ⟨t2, b2, e3, e4⟩ := bindP_inr e2
            have i2 := szr_B2 tx f (b1 + 1) t2 b2 e3
            split at e4
            · injection e4 with e4; injection e4 with h1 h2
              rw [← h1, ← h2, ht_in]; omega
            · cases e4
          · cases e2
        · cases h
theorem szr_S (tx : List Nat) : ∀ f a, szr a (pS tx f a)
  | 0, a => trivial
  | f + 1, a => by
    unfold pS
    exact szr_b (szr_T tx (szr_S tx f) (szr_B2 tx f) a) fun t b h => szr_C tx (fun a => szr_T tx (szr_S tx f) (szr_B2 tx f) a) 41 t b a h
theorem szr_P (tx : List Nat) : ∀ f a, szr a (pPr tx f a)
  | 0, a => trivial
  | f + 1, a => by
    unfold pPr
    split
    · refine szr_b (szr_P tx f (a + 1)) fun t b h => ?_
      show ht _ + 3 * a ≤ 3 * b
      rw [ht_in, ht_lf]; omega
    split
    · refine szr_b (szr_P tx f (a + 1)) fun t b h => ?_
      show ht _ + 3 * a ≤ 3 * b
      rw [ht_in, ht_lf]; omega
    split
    · refine szr_b (szr_S tx f (a + 1)) fun t b h => ?_
      split
      · split
        · refine szr_b (szr_P tx f (b + 2)) fun u c h2 => ?_
          show ht _ + 3 * a ≤ 3 * c
          rw [ht_in]; omega
        · exact trivial
      · exact trivial
    split
    · refine szr_b (szr_P tx f (a + 1)) fun t b h => ?_
      split
      · refine szr_b (szr_P tx f (b + 1)) fun u c h2 => ?_
        split
        · show ht _ + 3 * a ≤ 3 * (c + 1)
          rw [ht_in]; omega
        · exact trivial
      · exact trivial
    split
    · show ht _ + 3 * a ≤ 3 * (a + 1)
      rw [ht_in, ht_in, ht_lf]; omega
    · split
      · cases hb : pB tx f (a + 1) with
        | inl x => exact trivial
        | inr q =>
          have := szr_B2 tx f (a + 1) q.1 q.2 hb
          show ht _ + 3 * a ≤ 3 * q.2
          rw [ht_in, ht_in, ht_lf]; omega
      · exact trivial
theorem szr_W {tx : List Nat} (h40 : tx.length ≤ 40) {T : Tr} {b : Nat} (h : pW tx = .inr (T, b)) : ht T ≤ 120 ∧ b = tx.length := by
  unfold pW at h
  obtain ⟨t, c, e1, e2⟩ := bindP_inr h
  have h1 := szr_P tx 13 0
  have h2 := rng_P tx 13 0 (Nat.zero_le _)
  rw [e1] at h1 h2
  have h1' : ht t + 3 * 0 ≤ 3 * c := h1
  have h2' : c ≤ tx.length := h2.2
  split at e2
  · next hc =>
    injection e2 with e2; injection e2 with e3 e4
    rw [← e3, ← e4]
    exact ⟨by omega, hc⟩
  · cases e2
