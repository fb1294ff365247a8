/-! PURE: failing conditions, conditions that go alike, numbers of states -/
set_option maxRecDepth 100000
/-- an int that is -1 for nothing -/
def oI (o : Option Nat) : Int32 := match o with
  | none => -1
  | some v => nI v
theorem nI_nm {a : Nat} (ha : a < 2 ^ 31) : nI a ≠ -1 := by
  intro h
  have e1 : (nI a).toBitVec.toNat = a := pk_tn (by omega)
  rw [h] at e1
  have e2 : (-1 : Int32).toBitVec.toNat = 4294967295 := by decide
  omega
def sml (o : Option Nat) : Prop := ∀ v, o = some v → v < 2 ^ 31
theorem oI_inj {a b : Option Nat} (ha : sml a) (hb : sml b) (h : oI a = oI b) : a = b := by
  match a, b, ha, hb, h with
  | none, none, _, _, _ => rfl
  | none, some v, _, hb, h => exact absurd h.symm (nI_nm (hb v rfl))
  | some v, none, ha, _, h => exact absurd h (nI_nm (ha v rfl))
  | some v, some w, ha, hb, h => rw [nI_inj (Nat.lt_trans (ha v rfl) (by decide)) (Nat.lt_trans (hb w rfl) (by decide)) h]
theorem oI_none {a : Option Nat} (ha : sml a) : oI a = -1 ↔ a = none := ⟨fun h => oI_inj (b := none) ha (fun _ h => by cases h) h, fun h => by rw [h]; rfl⟩
/-! failing -/
def al8 (to : Nat → Nat) (B : Nat → Bool) (k : Nat) : Bool := (List.range 8).all fun x => B (to (8 * k + x))
/-- a sweep, as far as k -/
def swp (to : Nat → Nat) (B : Nat → Bool) : Nat → Nat → Bool
  | 0 => B
  | k + 1 => fun i => if i = k ∧ al8 to (swp to B k) k = true then true else swp to B k i
/-- did it change something -/
def mor (to : Nat → Nat) (B : Nat → Bool) : Nat → Bool
  | 0 => false
  | k + 1 => mor to B k || (al8 to (swp to B k) k && !(swp to B k k))
def fls (to : Nat → Nat) (n : Nat) : Nat → (Nat → Bool) → Nat → Bool
  | 0, B => B
  | f + 1, B => if mor to B n = true then fls to n f (swp to B n) else swp to B n
def cnt (B : Nat → Bool) : Nat → Nat
  | 0 => 0
  | n + 1 => cnt B n + if B n = true then 0 else 1
theorem cnt_n (B : Nat → Bool) : ∀ n, cnt B n ≤ n
  | 0 => Nat.le_refl _
  | n + 1 => by
    have := cnt_n B n
    unfold cnt
    split <;> omega
theorem cnt_le {B B' : Nat → Bool} : ∀ n, (∀ i, i < n → B i = true → B' i = true) → cnt B' n ≤ cnt B n
  | 0, _ => Nat.le_refl _
  | n + 1, h => by
    have a := cnt_le n (fun i hi => h i (by omega))
    have b := h n (by omega)
    unfold cnt
    by_cases c : B n = true
    · rw [if_pos c, if_pos (b c)]; omega
    · rw [if_neg c]
      split <;> omega
theorem cnt_lt {B B' : Nat → Bool} : ∀ n, (∀ i, i < n → B i = true → B' i = true) → (∃ i, i < n ∧ B i = false ∧ B' i = true) → cnt B' n < cnt B n
  | 0, _, ⟨i, hi, _⟩ => absurd hi (by omega)
  | n + 1, h, ⟨i, hi, h1, h2⟩ => by
    have b := h n (by omega)
    unfold cnt
    by_cases c : i = n
    · subst c
      have a := cnt_le i (fun j hj => h j (by omega))
      rw [h1, if_pos h2, if_neg Bool.false_ne_true]
      omega
    · have a := cnt_lt n (fun i hi => h i (by omega)) ⟨i, by omega, h1, h2⟩
      by_cases c : B n = true
      · rw [if_pos c, if_pos (b c)]; omega
      · rw [if_neg c]
        split <;> omega
theorem swp_mono (to : Nat → Nat) (B : Nat → Bool) : ∀ k i, B i = true → swp to B k i = true
  | 0, _, h => h
  | k + 1, i, h => by
    unfold swp
    split
    · rfl
    · exact swp_mono to B k i h
theorem swp_up (to : Nat → Nat) (B : Nat → Bool) : ∀ n k i, k ≤ n → swp to B k i = true → swp to B n i = true
  | 0, k, i, hk, h => by rw [Nat.le_zero.mp hk] at h; exact h
  | n + 1, k, i, hk, h => by
    by_cases c : k = n + 1
    · rw [c] at h; exact h
    · have := swp_up to B n k i (by omega) h
      unfold swp
      split
      · rfl
      · exact this
theorem swp_off (to : Nat → Nat) (B : Nat → Bool) : ∀ k i, k ≤ i → swp to B k i = B i
  | 0, _, _ => rfl
  | k + 1, i, h => by
    unfold swp
    rw [if_neg (by omega)]
    exact swp_off to B k i (by omega)
theorem mor_t {to : Nat → Nat} {B : Nat → Bool} : ∀ {n}, mor to B n = true → ∃ i, i < n ∧ B i = false ∧ swp to B n i = true
  | 0, h => by cases h
  | n + 1, h => by
    unfold mor at h
    rcases (Bool.or_eq_true _ _).mp h with g | g
    · obtain ⟨i, h1, h2, h3⟩ := mor_t g
      exact ⟨i, by omega, h2, swp_up to B (n + 1) n i (by omega) h3⟩
    · obtain ⟨g1, g2⟩ := (Bool.and_eq_true _ _).mp g
      rw [swp_off to B n n (Nat.le_refl _)] at g2
      refine ⟨n, by omega, ?_, ?_⟩
      · cases hB : B n
        · rfl
        · rw [hB] at g2; cases g2
      · unfold swp
        rw [if_pos ⟨rfl, g1⟩]
theorem mor_f {to : Nat → Nat} {B : Nat → Bool} : ∀ {n}, mor to B n = false → ∀ i, swp to B n i = B i
  | 0, _, _ => rfl
  | n + 1, h, i => by
    unfold mor at h
    obtain ⟨g1, g2⟩ := Bool.or_eq_false_iff.mp h
    have ih := mor_f g1
    unfold swp
    split
    · next c =>
      rw [c.2, ih n] at g2
      rw [c.1]
      cases hB : B n
      · rw [hB] at g2; cases g2
      · rfl
    · exact ih i
theorem cnt_mor {to : Nat → Nat} {B : Nat → Bool} {n : Nat} (h : mor to B n = true) : cnt (swp to B n) n < cnt B n := cnt_lt n (fun i _ hi => swp_mono to B n i hi) (mor_t h)
/-! alike -/
def sg (lk : Nat → Option Nat) (to : Nat → Nat) (i : Nat) : List (Option Nat) := lk i :: (List.range 8).map fun x => lk (to (8 * i + x))
theorem sg_eq {lk : Nat → Option Nat} {to : Nat → Nat} {i j : Nat} : sg lk to i = sg lk to j ↔ lk i = lk j ∧ ∀ x, x < 8 → lk (to (8 * i + x)) = lk (to (8 * j + x)) := by
  unfold sg
  constructor
  · intro h
    obtain ⟨h1, h2⟩ := List.cons.inj h
    exact ⟨h1, fun x hx => List.map_inj_left.mp h2 x (List.mem_range.mpr hx)⟩
  · rintro ⟨h1, h2⟩
    rw [h1, List.map_congr_left fun x hx => h2 x (List.mem_range.mp hx)]
def fs (p : Nat → Bool) : Nat → Nat → Nat
  | 0, j => j
  | m + 1, j => if p j = true then j else fs p m (j + 1)
theorem fs_eq {p : Nat → Bool} : ∀ {m j k : Nat}, (∀ i, j ≤ i → i < k → p i = false) → j ≤ k → k ≤ j + m → (k < j + m → p k = true) → fs p m j = k
  | 0, j, k, _, h1, h2, _ => by unfold fs; omega
  | m + 1, j, k, h0, h1, h2, h3 => by
    unfold fs
    by_cases c : j = k
    · subst c
      rw [if_pos (h3 (by omega))]
    · rw [if_neg (by rw [h0 j (Nat.le_refl _) (by omega)]; decide)]
      exact fs_eq (fun i hi hk => h0 i (by omega) hk) (by omega) (by omega) (fun hk => h3 (by omega))
theorem fs_le {p : Nat → Bool} : ∀ (m j : Nat), fs p m j ≤ j + m
  | 0, j => Nat.le_refl _
  | m + 1, j => by
    unfold fs
    split
    · omega
    · have := fs_le (p := p) m (j + 1); omega
theorem fs_p {p : Nat → Bool} : ∀ (m j : Nat), p (j + m) = true → p (fs p m j) = true
  | 0, j, h => h
  | m + 1, j, h => by
    unfold fs
    split
    · next c => exact c
    · exact fs_p m (j + 1) (by rw [show j + 1 + m = j + (m + 1) by omega]; exact h)
/-- the least one that goes alike -/
def rfn (to : Nat → Nat) (lk : Nat → Option Nat) (i : Nat) : Option Nat := match lk i with
  | none => none
  | some _ => some (fs (fun j => decide (sg lk to j = sg lk to i)) i 0)
theorem rfn_none {to : Nat → Nat} {lk : Nat → Option Nat} {i : Nat} : rfn to lk i = none ↔ lk i = none := by
  unfold rfn
  cases lk i <;> simp
theorem rfn_le {to : Nat → Nat} {lk : Nat → Option Nat} {i v : Nat} (h : rfn to lk i = some v) : v ≤ i ∧ sg lk to v = sg lk to i := by
  unfold rfn at h
  cases hk : lk i with
  | none => rw [hk] at h; cases h
  | some u =>
    rw [hk] at h
    have := Option.some.inj h
    rw [← this]
    refine ⟨by have := fs_le (p := fun j => decide (sg lk to j = sg lk to i)) i 0; omega, ?_⟩
    have := fs_p (p := fun j => decide (sg lk to j = sg lk to i)) i 0 (by rw [Nat.zero_add]; exact decide_eq_true rfl)
    exact of_decide_eq_true this
/-- labels are at most the index -/
def lkw (lk : Nat → Option Nat) : Prop := ∀ i v, lk i = some v → v ≤ i
theorem rfn_w {to : Nat → Nat} {lk : Nat → Option Nat} : lkw (rfn to lk) := fun _ _ h => (rfn_le h).1
theorem rfn_up {to : Nat → Nat} {lk : Nat → Option Nat} (hw : lkw lk) {i u v : Nat} (h1 : lk i = some u) (h2 : rfn to lk i = some v) : u ≤ v := by
  have := (sg_eq.mp (rfn_le h2).2).1
  exact hw v u (this.trans h1)
/-- is it the same everywhere -/
def sam (n : Nat) (a b : Nat → Option Nat) : Bool := (List.range n).all fun i => decide (a i = b i)
theorem sam_t {n : Nat} {a b : Nat → Option Nat} : sam n a b = true ↔ ∀ i, i < n → a i = b i := by
  unfold sam
  rw [List.all_eq_true]
  exact ⟨fun h i hi => of_decide_eq_true (h i (List.mem_range.mpr hi)), fun h i hi => decide_eq_true (h i (List.mem_range.mp hi))⟩
/-- parting, until nothing changes -/
def prt (to : Nat → Nat) (n : Nat) : Nat → (Nat → Option Nat) → Nat → Option Nat
  | 0, lk => lk
  | f + 1, lk => if sam n lk (rfn to lk) = true then rfn to lk else prt to n f (rfn to lk)
/-- how far the labels are from the indices -/
def gap (lk : Nat → Option Nat) : Nat → Nat
  | 0 => 0
  | n + 1 => gap lk n + match lk n with | none => 0 | some v => n - v
theorem gap_le (lk : Nat → Option Nat) : ∀ n, gap lk n ≤ n * n
  | 0 => Nat.le_refl _
  | n + 1 => by
    have := gap_le lk n
    unfold gap
    have e : (n + 1) * (n + 1) = n * n + (2 * n + 1) := by
      rw [Nat.add_mul, Nat.mul_add]; omega
    rw [e]
    generalize n * n = q at this ⊢
    cases lk n with
    | none => simp only []; omega
    | some v => simp only []; omega
theorem gap_mono {to : Nat → Nat} {lk : Nat → Option Nat} (hw : lkw lk) : ∀ n, gap (rfn to lk) n ≤ gap lk n
  | 0 => Nat.le_refl _
  | n + 1 => by
    have := gap_mono (to := to) hw n
    unfold gap
    cases hk : lk n with
    | none =>
      rw [rfn_none.mpr hk]
      simp only []
      omega
    | some u =>
      cases hr : rfn to lk n with
      | none => rw [rfn_none.mp hr] at hk; cases hk
      | some v =>
        have := rfn_up hw hk hr
        simp only []
        omega
theorem gap_lt {to : Nat → Nat} {lk : Nat → Option Nat} (hw : lkw lk) : ∀ n, sam n lk (rfn to lk) = false → gap (rfn to lk) n < gap lk n
  | 0, h => by cases h
  | n + 1, h => by
    have m := gap_mono (to := to) hw n
    unfold gap
    by_cases c : sam n lk (rfn to lk) = true
    · have hne : lk n ≠ rfn to lk n := by
        intro e
        have : sam (n + 1) lk (rfn to lk) = true := sam_t.mpr fun i hi => by
          by_cases c2 : i = n
          · rw [c2]; exact e
          · exact sam_t.mp c i (by omega)
        rw [h] at this
        cases this
      cases hk : lk n with
      | none => rw [hk, rfn_none.mpr hk] at hne; exact absurd rfl hne
      | some u =>
        cases hr : rfn to lk n with
        | none => rw [rfn_none.mp hr] at hk; cases hk
        | some v =>
          have h1 := rfn_up hw hk hr
          have h2 := (rfn_le hr).1
          rw [hk, hr] at hne
          have : u ≠ v := fun e => hne (by rw [e])
          simp only []
          omega
    · have a := gap_lt (to := to) hw n (by cases hh : sam n lk (rfn to lk); rfl; exact absurd hh c)
      cases hk : lk n with
      | none =>
        rw [rfn_none.mpr hk]
        simp only []
        omega
      | some u =>
        cases hr : rfn to lk n with
        | none => rw [rfn_none.mp hr] at hk; cases hk
        | some v =>
          have := rfn_up hw hk hr
          simp only []
          omega
/-! numbers as they are met -/
def nmb (nx : Nat → Nat → Option Nat) : Nat → List Nat → List (Option Nat) → List Nat × List (Option Nat)
  | 0, met, out => (met, out)
  | f + 1, met, out => if out.length < 8 * met.length then
      (match nx (met.getD (out.length / 8) 0) (out.length % 8) with
       | none => nmb nx f met (out ++ [none])
       | some v => if v ∈ met then nmb nx f met (out ++ [some (fi (fun u => u == v) met)]) else nmb nx f (met ++ [v]) (out ++ [some met.length]))
    else (met, out)
