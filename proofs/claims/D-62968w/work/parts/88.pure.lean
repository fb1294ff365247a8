/-! WHAT IS ASKED, by the tree alone: s j says whether obligation j is in the set -/
set_option maxRecDepth 100000
def plT (r : SQ) (k i lt : Nat) (s : Nat → Prop) (th : Prop) : Prop := ((sms r).getD i 0).testBit lt = true → (∀ j, ((sfo r).getD i 0).testBit j = true → s (k + j)) ∧ ((sLa r).testBit i = true → th)
/-- what a property asks whose obligations are numbered from k on -/
def aT : Tr → Bool → Nat → Nat → (Nat → Prop) → Prop
  | .leaf, _, _, _, _ => False
  | .inner n _ _ l r, due, k, lt, s =>
    if n = 0 then (bm l).testBit lt = true
    else if n = 1 then aT l false (k + owns due n) lt s ∧ s k
    else if n = 2 then s (k + owns due n)
    else if n = 3 then ∀ i, i < (sfo (sq l)).length → (sFi (sq l)).testBit i = true → plT (sq l) (k + owns due n) i lt s (aT r false (k + owns due n + (sfo (sq l)).length) lt s)
    else if n = 4 then ∀ i, i < (sfo (sq l)).length → (sFi (sq l)).testBit i = true → plT (sq l) (k + owns due n) i lt s (s (k + owns due n + (sfo (sq l)).length))
    else if n = 5 then aT l false (k + owns due n) lt s ∧ aT r false (k + owns due n + wid l false) lt s
    else if n = 6 then aT l false (k + owns due n) lt s ∨ aT r false (k + owns due n + wid l false) lt s
    else aT r false (k + owns due n + wid l false) lt s ∨ (aT l false (k + owns due n) lt s ∧ s k)
/-- what obligation v asks -/
def obT : Tr → Bool → Nat → Nat → Nat → (Nat → Prop) → Prop
  | .leaf, _, _, _, _, _ => False
  | .inner n a b l r, due, k, v, lt, s =>
    if v < k + owns due n then aT (.inner n a b l r) due k lt s
    else if n = 0 then False
    else if n = 1 then obT l false (k + owns due n) v lt s
    else if n = 2 then obT l true (k + owns due n) v lt s
    else if n = 3 then (if v < k + owns due n + (sfo (sq l)).length then plT (sq l) (k + owns due n) (v - (k + owns due n)) lt s (aT r false (k + owns due n + (sfo (sq l)).length) lt s) else obT r false (k + owns due n + (sfo (sq l)).length) v lt s)
    else if n = 4 then (if v < k + owns due n + (sfo (sq l)).length then plT (sq l) (k + owns due n) (v - (k + owns due n)) lt s (s (k + owns due n + (sfo (sq l)).length)) else obT r true (k + owns due n + (sfo (sq l)).length) v lt s)
    else (if v < k + owns due n + wid l false then obT l false (k + owns due n) v lt s else obT r false (k + owns due n + wid l false) v lt s)
def bts (x : Nat) : Nat → Prop := fun j => x.testBit j = true
theorem sb_2 {k x : Nat} : sb (2 ^ k) x ↔ bts x k := by
  rw [sb_iff]
  constructor
  · intro h
    exact h k (Nat.testBit_two_pow_self)
  · intro h i hi
    have : i = k := Classical.byContradiction fun hn => by
      rw [Nat.testBit_two_pow_of_ne (fun e => hn e.symm)] at hi
      cases hi
    rw [this]
    exact h
theorem sb_sh {f k x : Nat} : sb (f * 2 ^ k) x ↔ ∀ j, f.testBit j = true → bts x (k + j) := by
  rw [sb_iff]
  constructor
  · intro h j hj
    refine h (k + j) ?_
    rw [tb_mul, decide_eq_true (Nat.le_add_right k j), Nat.add_sub_cancel_left, hj]
    rfl
  · intro h i hi
    rw [tb_mul, Bool.and_eq_true, decide_eq_true_eq] at hi
    have := h (i - k) hi.2
    rw [show k + (i - k) = i by omega] at this
    exact this
/-- a place -/
theorem plc_pure {z : aSt} {A : Nat → Nat → Nat → Prop} {l : Tr} {p n K i lt x : Nat} {th : Prop} (h0 : gR z p 0 = some n) (h1 : n = 3 ∨ n = 4) (g : plcAt z K (sq l) p) (hK : K + (sfo (sq l)).length ≤ 9) (hi : i < (sfo (sq l)).length) (hth : (if n = 4 then sb (2 ^ vI z (vR z p 2) 6) x else A (vR z p 2) lt x) ↔ th) : plcP z A (K + i) lt x ↔ plT (sq l) K i lt (bts x) th := by
  have w := sqW_sq l
  have e := g i hi
  unfold ent at e
  simp only [Prod.mk.injEq] at e
  obtain ⟨e1, e2, e3, e4, e5⟩ := e
  have m1 := sq_ms l _ (get_mem (show i < (sms (sq l)).length by rw [w.2.2.2]; exact hi))
  have m2 := m512 (w.2.2.1 _ (get_mem hi)) hK
  have v1 := vI_of e1 (by omega)
  have v2 := vI_of e2 (by omega)
  have v4 : vR z 109 (K + i) = p := vR_of e4
  have v0 : vR z p 0 = n := vR_of h0
  unfold plcP plT
  rw [v1, v2, v4, v0, hth, sb_sh]
  have v3 : vI z 108 (K + i) = 1 ↔ (sLa (sq l)).testBit i = true := by
    unfold vI
    rw [e3]
    cases (sLa (sq l)).testBit i
    · exact ⟨fun h => absurd h (by decide), fun h => by cases h⟩
    · exact ⟨fun _ => rfl, fun _ => by decide⟩
  rw [v3]
theorem ask_pure {z : aSt} : ∀ (T : Tr) (p : Nat) (due : Bool) (k m lt x : Nat), repP z T p → numC z T p due k → k + wid T due ≤ 9 → k + wid T due ≤ vI z 104 0 → ht T ≤ m → (askP z m p lt x ↔ aT T due k lt (bts x))
  | .leaf, _, _, _, _, _, _, h, _, _, _, _ => False.elim h
  | .inner n a b l r, p, due, k, 0, lt, x, _, _, _, _, hm => absurd hm (by show ¬ ht l + ht r + 1 ≤ 0; omega)
  | .inner n a b l r, p, due, k, m + 1, lt, x, ⟨h2, h3, h⟩, hn, hk, hk2, hm => by
    have v0 : vR z p 0 = n := vR_of h3
    have hd : (owns due n = 1 → gI z p 6 = nI k ∧ gR z 105 k = some p) := hn.1
    have hm' : ht l + ht r + 1 ≤ m + 1 := hm
    show askK z (askP z m) (vR z p 0) p lt x ↔ _
    rw [v0]
    have own9 : owns due n = 1 → vI z p 6 = k := fun g => by
      have : owns due n ≤ wid (.inner n a b l r) due := by unfold wid; omega
      exact vI_of (hd g).1 (by omega)
    rcases h with ⟨h1, h4⟩ | ⟨h1, h4, h5⟩ | ⟨h1, h4, h5, h6, h7⟩ | ⟨h1, h4, h5, h6, h7⟩
    · subst h1
      have := bm_lt l
      show (vI z p 3).testBit lt = true ↔ (bm l).testBit lt = true
      rw [vI_of h4 (by omega)]
    · rw [wid_u h1] at hk hk2
      have hn' := ((num_u h1).mp hn).2
      rcases h1 with h1 | h1
      · subst h1
        show askP z m (vR z p 1) lt x ∧ sb (2 ^ vI z p 6) x ↔ aT l false (k + owns due 1) lt (bts x) ∧ bts x k
        have e1 : owns due 1 = 1 := by unfold owns; rw [if_pos (.inr (.inl rfl))]
        rw [own9 e1, sb_2, ask_pure l _ false (k + owns due 1) m lt x h5 hn' (by have : k + (owns due 1 + wid l false) ≤ 9 := hk; omega) (by have : k + (owns due 1 + wid l false) ≤ _ := hk2; omega) (by omega)]
      · subst h1
        obtain ⟨q1, q2, q3⟩ := own_due h5 hn'
        have hk' : k + (owns due 2 + wid l true) ≤ 9 := hk
        show sb (2 ^ vI z (vR z p 1) 6) x ↔ bts x (k + owns due 2)
        rw [vI_of q1 (by omega), sb_2]
    · rw [wid_s h1] at hk hk2
      obtain ⟨_, g2, g3, g4⟩ := (num_s h1).mp hn
      have w := sqW_sq l
      have f9 := m512 w.1 (show k + owns due n + (sfo (sq l)).length ≤ 9 by omega)
      have main : ∀ th : Prop, ((if n = 4 then sb (2 ^ vI z (vR z p 2) 6) x else askP z m (vR z p 2) lt x) ↔ th) → ((∀ j, j < vI z 104 0 → (vI z p 7).testBit j = true → plcP z (askP z m) j lt x) ↔ ∀ i, i < (sfo (sq l)).length → (sFi (sq l)).testBit i = true → plT (sq l) (k + owns due n) i lt (bts x) th) := by
        intro th hth
        rw [vI_of g2 (by omega)]
        constructor
        · intro hh i hi hb
          refine (plc_pure h3 h1 g3 (by omega) hi hth).mp (hh _ (by omega) ?_)
          rw [tb_mul, decide_eq_true (Nat.le_add_right _ i), Nat.add_sub_cancel_left, hb]
          rfl
        · intro hh j hj hb
          rw [tb_mul, Bool.and_eq_true, decide_eq_true_eq] at hb
          have hi : j - (k + owns due n) < (sfo (sq l)).length := by
            apply Nat.lt_of_not_le
            intro g
            rw [Nat.testBit_lt_two_pow (lt_up w.1 g)] at hb
            cases hb.2
          have := (plc_pure h3 h1 g3 (by omega) hi hth).mpr (hh _ hi hb.2)
          rw [show k + owns due n + (j - (k + owns due n)) = j by omega] at this
          exact this
      rcases h1 with h1 | h1
      · subst h1
        refine main _ ?_
        rw [if_neg (by decide)]
        exact ask_pure r _ false _ m lt x h7 g4 (by have : k + (owns due 3 + ((sfo (sq l)).length + wid r false)) ≤ 9 := hk; omega) (by have : k + (owns due 3 + ((sfo (sq l)).length + wid r false)) ≤ _ := hk2; omega) (by omega)
      · subst h1
        refine main _ ?_
        rw [if_pos rfl]
        obtain ⟨q1, q2, q3⟩ := own_due h7 g4
        have hk' : k + (owns due 4 + ((sfo (sq l)).length + wid r true)) ≤ 9 := hk
        rw [vI_of q1 (by omega), sb_2]
    · rw [wid_b h1] at hk hk2
      obtain ⟨_, g3, g4⟩ := (num_b h1).mp hn
      have wl := ask_pure l _ false _ m lt x h5 g3 (by omega) (by omega) (by omega)
      have wr := ask_pure r _ false _ m lt x h7 g4 (by omega) (by omega) (by omega)
      rcases h1 with h1 | h1 | h1
      · subst h1
        show askP z m (vR z p 1) lt x ∧ askP z m (vR z p 2) lt x ↔ _
        rw [wl, wr]
        exact Iff.rfl
      · subst h1
        show askP z m (vR z p 1) lt x ∨ askP z m (vR z p 2) lt x ↔ _
        rw [wl, wr]
        exact Iff.rfl
      · subst h1
        show askP z m (vR z p 2) lt x ∨ askP z m (vR z p 1) lt x ∧ sb (2 ^ vI z p 6) x ↔ _
        have e1 : owns due 7 = 1 := by unfold owns; rw [if_pos (.inr (.inr rfl))]
        rw [wl, wr, own9 e1, sb_2]
        exact Iff.rfl
/-- an obligation -/
def oblM (z : aSt) (m v lt x : Nat) : Prop := match gR z 105 v with
  | some q => askP z m q lt x
  | none => plcP z (askP z m) v lt x
theorem plc_none {z : aSt} {K i p : Nat} {r : SQ} (g : plcAt z K r p) (hi : i < (sfo r).length) : gR z 105 (K + i) = none := by
  have e := g i hi
  unfold ent at e
  simp only [Prod.mk.injEq] at e
  exact e.2.2.2.2
theorem obl_pure {z : aSt} : ∀ (T : Tr) (p : Nat) (due : Bool) (k m lt x v : Nat), repP z T p → numC z T p due k → k + wid T due ≤ 9 → k + wid T due ≤ vI z 104 0 → ht T ≤ m → k ≤ v → v < k + wid T due → (oblM z m v lt x ↔ obT T due k v lt (bts x))
  | .leaf, _, _, _, _, _, _, _, h, _, _, _, _, _, _ => False.elim h
  | .inner n a b l r, p, due, k, m, lt, x, v, ⟨h2, h3, h⟩, hn, hk, hk2, hm, hv1, hv2 => by
    have hself := ask_pure (.inner n a b l r) p due k m lt x ⟨h2, h3, h⟩ hn hk hk2 hm
    have hd : (owns due n = 1 → gI z p 6 = nI k ∧ gR z 105 k = some p) := hn.1
    have ow := owns_le due n
    have hm' : ht l + ht r + 1 ≤ m := hm
    unfold obT
    by_cases c0 : v < k + owns due n
    · rw [if_pos c0]
      have e : v = k := by omega
      unfold oblM
      rw [e, (hd (by omega)).2]
      exact hself
    · rw [if_neg c0]
      rcases h with ⟨h1, h4⟩ | ⟨h1, h4, h5⟩ | ⟨h1, h4, h5, h6, h7⟩ | ⟨h1, h4, h5, h6, h7⟩
      · subst h1
        have : wid (.inner 0 a b l r) due = owns due 0 + 0 := rfl
        omega
      · rw [wid_u h1] at hk hk2 hv2
        have hn' := ((num_u h1).mp hn).2
        have ih := obl_pure l _ _ _ m lt x v h5 hn' (by omega) (by omega) (by omega) (by omega) (by omega)
        rcases h1 with h1 | h1
        · subst h1; exact ih
        · subst h1; exact ih
      · rw [wid_s h1] at hk hk2 hv2
        obtain ⟨_, g2, g3, g4⟩ := (num_s h1).mp hn
        by_cases c : v < k + owns due n + (sfo (sq l)).length
        · have hi : v - (k + owns due n) < (sfo (sq l)).length := by omega
          have ev : k + owns due n + (v - (k + owns due n)) = v := by omega
          have e5 := plc_none g3 hi
          rw [ev] at e5
          have hob : oblM z m v lt x ↔ plcP z (askP z m) v lt x := by
            unfold oblM
            rw [e5]
          rw [hob]
          rcases h1 with h1 | h1
          · subst h1
            have hth : (if 3 = 4 then sb (2 ^ vI z (vR z p 2) 6) x else askP z m (vR z p 2) lt x) ↔ aT r false (k + owns due 3 + (sfo (sq l)).length) lt (bts x) := by
              rw [if_neg (by decide)]
              exact ask_pure r _ false _ m lt x h7 g4 (by have : k + (owns due 3 + ((sfo (sq l)).length + wid r false)) ≤ 9 := hk; omega) (by have : k + (owns due 3 + ((sfo (sq l)).length + wid r false)) ≤ _ := hk2; omega) (by omega)
            have := plc_pure (A := askP z m) h3 (.inl rfl) g3 (by omega) hi hth
            rw [ev] at this
            rw [this, if_neg (by decide), if_neg (by decide), if_neg (by decide), if_pos rfl, if_pos c]
          · subst h1
            obtain ⟨q1, q2, q3⟩ := own_due h7 g4
            have hk' : k + (owns due 4 + ((sfo (sq l)).length + wid r true)) ≤ 9 := hk
            have hth : (if 4 = 4 then sb (2 ^ vI z (vR z p 2) 6) x else askP z m (vR z p 2) lt x) ↔ bts x (k + owns due 4 + (sfo (sq l)).length) := by
              rw [if_pos rfl, vI_of q1 (by omega), sb_2]
            have := plc_pure (A := askP z m) h3 (.inr rfl) g3 (by omega) hi hth
            rw [ev] at this
            rw [this, if_neg (by decide), if_neg (by decide), if_neg (by decide), if_neg (by decide), if_pos rfl, if_pos c]
        · have ih := obl_pure r _ _ _ m lt x v h7 g4 (by omega) (by omega) (by omega) (by omega) (by omega)
          rcases h1 with h1 | h1
          · subst h1
            rw [ih, if_neg (by decide), if_neg (by decide), if_neg (by decide), if_pos rfl, if_neg c]
            exact Iff.rfl
          · subst h1
            rw [ih, if_neg (by decide), if_neg (by decide), if_neg (by decide), if_neg (by decide), if_pos rfl, if_neg c]
            exact Iff.rfl
      · rw [wid_b h1] at hk hk2 hv2
        obtain ⟨_, g3, g4⟩ := (num_b h1).mp hn
        have e : (if n = 0 then False else if n = 1 then obT l false (k + owns due n) v lt (bts x) else if n = 2 then obT l true (k + owns due n) v lt (bts x) else if n = 3 then (if v < k + owns due n + (sfo (sq l)).length then plT (sq l) (k + owns due n) (v - (k + owns due n)) lt (bts x) (aT r false (k + owns due n + (sfo (sq l)).length) lt (bts x)) else obT r false (k + owns due n + (sfo (sq l)).length) v lt (bts x))
            else if n = 4 then (if v < k + owns due n + (sfo (sq l)).length then plT (sq l) (k + owns due n) (v - (k + owns due n)) lt (bts x) (bts x (k + owns due n + (sfo (sq l)).length)) else obT r true (k + owns due n + (sfo (sq l)).length) v lt (bts x))
            else (if v < k + owns due n + wid l false then obT l false (k + owns due n) v lt (bts x) else obT r false (k + owns due n + wid l false) v lt (bts x))) = (if v < k + owns due n + wid l false then obT l false (k + owns due n) v lt (bts x) else obT r false (k + owns due n + wid l false) v lt (bts x)) := by
          rw [if_neg (by omega), if_neg (by omega), if_neg (by omega), if_neg (by omega), if_neg (by omega)]
        rw [e]
        by_cases c : v < k + owns due n + wid l false
        · rw [if_pos c]
          exact obl_pure l _ _ _ m lt x v h5 g3 (by omega) (by omega) (by omega) (by omega) (by omega)
        · rw [if_neg c]
          exact obl_pure r _ _ _ m lt x v h7 g4 (by omega) (by omega) (by omega) (by omega) (by omega)
