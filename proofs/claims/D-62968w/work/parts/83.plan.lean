/-! Circuit: plan, wanted; Monitor.first -/
set_option maxRecDepth 100000
/-- how many bits the states' numbers take -/
def bt (many : Nat) : Nat → Nat → Nat
  | 0, b => b
  | f + 1, b => if 2 ^ b ≤ many then bt many f (b + 1) else b
def bitsOf (many : Nat) : Nat := bt many 6 1
theorem bits_rng : ∀ many, many ≤ 40 → 1 ≤ bitsOf many ∧ bitsOf many ≤ 6 ∧ many < 2 ^ bitsOf many := by decide
/-- the Circuit's cells that never change -/
def cirS (z : aSt) : Prop := gT z 345 = (7, 0) ∧ gR z 345 0 = some 346 ∧ gR z 345 1 = some 347 ∧ gR z 345 2 = some 348 ∧ gR z 345 4 = some 349 ∧ gT z 346 = (8, 0) ∧ gT z 347 = (8, 0) ∧ gT z 349 = (48, 7) ∧ gR z 346 1 = none ∧ gR z 347 1 = none ∧ gI z 346 3 = nI 0 ∧ gI z 347 3 = nI 1
def plnZ (z : aSt) (many : Nat) : aSt := sI (sI (sR z 345 7 (some 263)) 345 6 (nI 0)) 345 5 (nI (bitsOf many))
theorem x_planL {d many : Nat} {z : aSt} {Q : aRes → aSt → Prop} (hT : (gT z 345).1 = 7) (hT3 : (gT z 263).1 = 5) (hm : gI z 263 1 = nI many) (hm40 : many ≤ 40) : ∀ (f b : Nat), f + b = 7 → 1 ≤ b → (Q (.inl none) (sI z 345 5 (nI (bt many f b)))) → wR (aEx d) aM_X7_plan Q 15 [some (.ref 345), some (.ref 263)] [] (sI z 345 5 (nI b)) := by
  intro f
  induction f with
  | zero =>
    intro b hb h1 q
    have e : b = 7 := by omega
    subst e
    have g5 : gI (sI z 345 5 (nI 7)) 345 5 = nI 7 := gI_same ..
    have gm : gI (sI z 345 5 (nI 7)) 263 1 = nI many := (gI_ne (by decide)).trans hm
    have hTa : (gT (sI z 345 5 (nI 7)) 345).1 = 7 := hT
    have hTb : (gT (sI z 345 5 (nI 7)) 263).1 = 5 := hT3
    refine w_nx (pc' := 16) (S' := .int (nI 1) :: _) rfl ?_
    refine w_nx (pc' := 17) rfl ?_
    refine w_getI rfl rfl (hTa) rfl rfl ?_
    refine w_top (g5) ?_
    refine w_nx (pc' := 21) rfl ?_
    refine w_top (nI_shl (by decide) (by decide)) ?_
    refine w_nx (pc' := 22) rfl ?_
    refine w_getI rfl rfl (hTb) rfl rfl ?_
    refine w_top (gm) ?_
    refine w_ncgt rfl rfl rfl rfl rfl (by decide) (by omega) (fun hb => ?_) (fun hb => absurd hb (by omega))
    exact w_fin rfl q
  | succ f ih =>
    intro b hb h1 q
    have g5 : gI (sI z 345 5 (nI b)) 345 5 = nI b := gI_same ..
    have gm : gI (sI z 345 5 (nI b)) 263 1 = nI many := (gI_ne (by decide)).trans hm
    have hTa : (gT (sI z 345 5 (nI b)) 345).1 = 7 := hT
    have hTb : (gT (sI z 345 5 (nI b)) 263).1 = 5 := hT3
    have hp : 2 ^ b ≤ 2 ^ 6 := Nat.pow_le_pow_right (by decide) (by omega)
    refine w_nx (pc' := 16) (S' := .int (nI 1) :: _) rfl ?_
    refine w_nx (pc' := 17) rfl ?_
    refine w_getI rfl rfl (hTa) rfl rfl ?_
    refine w_top (g5) ?_
    refine w_nx (pc' := 21) rfl ?_
    refine w_top (nI_shl (by omega) (by omega)) ?_
    refine w_nx (pc' := 22) rfl ?_
    refine w_getI rfl rfl (hTb) rfl rfl ?_
    refine w_top (gm) ?_
    refine w_ncgt rfl rfl rfl rfl rfl (by omega) (by omega) (fun hb => ?_) (fun hb => ?_)
    · have e : bt many (f + 1) b = b := by
        show (if 2 ^ b ≤ many then _ else _) = _
        rw [if_neg (by omega)]
      rw [e] at q
      exact w_fin rfl q
    · have e : bt many (f + 1) b = bt many f (b + 1) := by
        show (if 2 ^ b ≤ many then _ else _) = _
        rw [if_pos (by omega)]
      rw [e] at q
      refine w_nx (pc' := 29) rfl ?_
      refine w_nx (pc' := 30) rfl ?_
      refine w_getI rfl rfl (hTa) rfl rfl ?_
      refine w_top (g5) ?_
      refine w_nx (pc' := 34) (S' := .int (nI 1) :: _) rfl ?_
      refine w_nx (pc' := 35) rfl ?_
      refine w_top (nI_add _ _) ?_
      refine w_put rfl rfl (hTa) (by omega) rfl rfl rfl ?_
      refine w_nx (pc' := 15) rfl ?_
      rw [sI_sI]
      exact ih (b + 1) (by omega) (by omega) q
theorem x_plan {d many : Nat} {z : aSt} (hT : (gT z 345).1 = 7) (hT3 : (gT z 263).1 = 5) (hm : gI z 263 1 = nI many) (hm40 : many ≤ 40) : aW (d + 1) 77 [.ref 345, .ref 263] z (fun o z' => o = .inl none ∧ z' = plnZ z many) := by
  refine w_of (k := 77) (m := aM_X7_plan) rfl rfl ?_
  refine w_nx (pc' := 1) rfl ?_
  refine w_nx (pc' := 2) rfl ?_
  refine w_put rfl rfl (hT) (by omega) rfl rfl rfl ?_
  have hTa : (gT (sR z 345 7 (some 263)) 345).1 = 7 := hT
  refine w_nx (pc' := 6) rfl ?_
  refine w_nx (pc' := 7) (S' := .int (nI 0) :: _) rfl ?_
  refine w_put rfl rfl (hTa) (by omega) rfl (rfl) rfl ?_
  refine w_nx (pc' := 11) rfl ?_
  refine w_nx (pc' := 12) (S' := .int (nI 1) :: _) rfl ?_
  refine w_put rfl rfl (hTa) (by omega) rfl rfl rfl ?_
  exact x_planL (z := sI (sR z 345 7 (some 263)) 345 6 (nI 0)) hT hT3 ((gI_ne (by decide)).trans hm) hm40 6 1 rfl (Nat.le_refl _) ⟨rfl, rfl⟩
theorem x_first {d many : Nat} {z : aSt} (h : monS z) (hm : gI z 263 1 = nI many) (h40 : many ≤ 40) : aW (d + 1) 74 [.ref 263] z (fun o z' => z' = z ∧ o = .inl (some (if many = 0 then .null else .ref 265))) := by
  have hT3 : (gT z 263).1 = 5 := by rw [h.1]
  refine w_of (k := 74) (m := aM_X5_first) rfl rfl ?_
  refine w_nx (pc' := 1) rfl ?_
  refine w_getI rfl rfl (hT3) rfl rfl ?_
  refine w_top (hm) ?_
  by_cases c : many = 0
  · subst c
    refine w_ifne rfl rfl rfl (fun g => absurd rfl g) (fun _ => ?_)
    refine w_nx (pc' := 8) rfl ?_
    refine w_nx (pc' := 17) rfl ?_
    exact w_fin rfl ⟨rfl, rfl⟩
  · refine w_ifne rfl rfl rfl (fun _ => ?_) (fun g => absurd (fun e => by have := nI_inj (b := 0) (by omega) (by decide) e; omega) g)
    rw [if_neg c]
    refine w_nx (pc' := 12) rfl ?_
    refine w_getR rfl rfl (hT3) (congrArg va_rf (h.2.1)) rfl ?_
    refine w_nx (pc' := 16) (S' := .int (nI 0) :: _) rfl ?_
    refine w_ald rfl (fun _ _ _ _ _ _ => rfl) (h.2.2.1) rfl (rfl) (by omega) (by decide) (congrArg va_rf ((h.2.2.2 0 (by decide)).1)) rfl ?_
    exact w_fin rfl ⟨rfl, rfl⟩
/-- the Monitor: states, and where they go -/
def monR (z : aSt) (many : Nat) (out : List (Option Nat)) : Prop := gI z 263 1 = nI many ∧ many ≤ 40 ∧ out.length = 8 * many ∧ (∀ i, i < out.length → gR z (266 + 2 * (i / 8)) (i % 8) = nxS (out.getD i none)) ∧ ∀ o ∈ out, ∀ j, o = some j → j < many
/-- the next state of a code by a letter -/
def nxO (many : Nat) (out : List (Option Nat)) (c l : Nat) : Option Nat := if c < many then out.getD (8 * c + l) none else none
theorem nxO_lt {z : aSt} {many c l j : Nat} {out : List (Option Nat)} (h : monR z many out) (hl : l < 8) (e : nxO many out c l = some j) : j < many := by
  unfold nxO at e
  split at e
  · next hc =>
    refine h.2.2.2.2 _ ?_ j e
    have hlen : 8 * c + l < out.length := by have := h.2.2.1; omega
    rw [List.getD_eq_getElem?_getD, List.getElem?_eq_getElem hlen]
    exact List.getElem_mem hlen
  · cases e
theorem nxO_R {z : aSt} {many c l : Nat} {out : List (Option Nat)} (h : monR z many out) (hl : l < 8) (hc : c < many) : gR z (266 + 2 * c) l = nxS (nxO many out c l) := by
  unfold nxO
  rw [if_pos hc]
  have := h.2.2.2.1 (8 * c + l) (by have := h.2.2.1; omega)
  rw [show (8 * c + l) / 8 = c by omega, show (8 * c + l) % 8 = l by omega] at this
  exact this
/-- what an output is, for a code and a letter -/
def wnt (many : Nat) (out : List (Option Nat)) (o c l : Nat) : Bool := if o = bitsOf many then (nxO many out c l).isNone else ((nxO many out c l).getD many).testBit o
theorem x_wanted {d many o c l : Nat} {out : List (Option Nat)} {z : aSt} (h : monS z) (hr : monR z many out) (hT : (gT z 345).1 = 7) (h7 : gR z 345 7 = some 263) (h5 : gI z 345 5 = nI (bitsOf many)) (hl : l < 8) (hc : c < 64) (ho : o ≤ bitsOf many) : aW (d + 1) 81 [.ref 345, .int (nI o), .int (nI c), .int (nI l)] z (fun r z' => z' = z ∧ r = .inl (some (.int (bI (wnt many out o c l))))) := by
  have hT3 : (gT z 263).1 = 5 := by rw [h.1]
  have hb := bits_rng many hr.2.1
  have h40 := hr.2.1
  have tail : ∀ (u : Option Nat), u = nxS (nxO many out c l) → (∀ j, nxO many out c l = some j → (gT z (265 + 2 * j)).1 = 6 ∧ gI z (265 + 2 * j) 0 = nI j ∧ j < many) → wR (aEx d) aM_X7_wanted (fun r z' => z' = z ∧ r = .inl (some (.int (bI (wnt many out o c l))))) 29 [some (.ref 345), some (.int (nI o)), some (.int (nI c)), some (.int (nI l)), none, none] [va_rf u] z := by
    intro u hu hj
    have t2 : ∀ (w : Option Nat) (v : Nat), w = nxO many out c l → v = w.getD many → v < 64 → wR (aEx d) aM_X7_wanted (fun r z' => z' = z ∧ r = .inl (some (.int (bI (wnt many out o c l))))) 51 [some (.ref 345), some (.int (nI o)), some (.int (nI c)), some (.int (nI l)), some (va_rf (nxS w)), none] [.int (nI v)] z := by
      intro w v hw hv hv6
      unfold wnt
      rw [← hw, ← hv]
      cases w with
      | none =>
        refine w_nx (pc' := 53) rfl ?_
        refine w_nx (pc' := 54) rfl ?_
        refine w_nx (pc' := 55) rfl ?_
        refine w_getI rfl rfl (hT) rfl rfl ?_
        refine w_top (h5) ?_
        refine w_ncne rfl rfl rfl (rfl) (rfl) (by omega) (by omega) (fun hob => ?_) (fun hob => ?_)
        · rw [if_neg hob]
          refine w_nx (pc' := 76) rfl ?_
          refine w_nx (pc' := 77) rfl ?_
          refine w_nx (pc' := 78) rfl ?_
          refine w_nx (pc' := 79) (S' := .int (nI 1) :: _) rfl ?_
          refine w_nx (pc' := 80) rfl ?_
          refine w_top (nI_bit (by omega) (by omega)) ?_
          refine w_nx (pc' := 81) (S' := .int (nI 1) :: _) rfl ?_
          cases hbt : v.testBit o
          · refine w_icne rfl rfl rfl (fun _ => ?_) (fun g => absurd (by decide) g)
            refine w_nx (pc' := 89) (S' := .int (nI 0) :: _) rfl ?_
            exact w_fin rfl ⟨rfl, rfl⟩
          · refine w_icne rfl rfl rfl (fun g => absurd rfl g) (fun _ => ?_)
            refine w_nx (pc' := 85) (S' := .int (nI 1) :: _) rfl ?_
            refine w_nx (pc' := 89) rfl ?_
            exact w_fin rfl ⟨rfl, rfl⟩
        · rw [if_pos hob]
          refine w_nx (pc' := 63) rfl ?_
          refine w_inon (u := none) rfl rfl rfl (fun b hb => by cases hb) (fun hb => ?_)
          refine w_nx (pc' := 67) (S' := .int (nI 1) :: _) rfl ?_
          refine w_nx (pc' := 89) rfl ?_
          exact w_fin rfl ⟨rfl, rfl⟩
      | some j =>
        refine w_nx (pc' := 53) rfl ?_
        refine w_nx (pc' := 54) rfl ?_
        refine w_nx (pc' := 55) rfl ?_
        refine w_getI rfl rfl (hT) rfl rfl ?_
        refine w_top (h5) ?_
        refine w_ncne rfl rfl rfl (rfl) (rfl) (by omega) (by omega) (fun hob => ?_) (fun hob => ?_)
        · rw [if_neg hob]
          refine w_nx (pc' := 76) rfl ?_
          refine w_nx (pc' := 77) rfl ?_
          refine w_nx (pc' := 78) rfl ?_
          refine w_nx (pc' := 79) (S' := .int (nI 1) :: _) rfl ?_
          refine w_nx (pc' := 80) rfl ?_
          refine w_top (nI_bit (by omega) (by omega)) ?_
          refine w_nx (pc' := 81) (S' := .int (nI 1) :: _) rfl ?_
          cases hbt : v.testBit o
          · refine w_icne rfl rfl rfl (fun _ => ?_) (fun g => absurd (by decide) g)
            refine w_nx (pc' := 89) (S' := .int (nI 0) :: _) rfl ?_
            exact w_fin rfl ⟨rfl, rfl⟩
          · refine w_icne rfl rfl rfl (fun g => absurd rfl g) (fun _ => ?_)
            refine w_nx (pc' := 85) (S' := .int (nI 1) :: _) rfl ?_
            refine w_nx (pc' := 89) rfl ?_
            exact w_fin rfl ⟨rfl, rfl⟩
        · rw [if_pos hob]
          refine w_nx (pc' := 63) rfl ?_
          refine w_inon (u := some (265 + 2 * j)) rfl rfl rfl (fun b hb => ?_) (fun hb => by cases hb)
          refine w_nx (pc' := 71) (S' := .int (nI 0) :: _) rfl ?_
          refine w_nx (pc' := 89) rfl ?_
          exact w_fin rfl ⟨rfl, rfl⟩
    subst hu
    cases hn : nxO many out c l with
    | none =>
      refine w_nx (pc' := 31) rfl ?_
      refine w_nx (pc' := 33) rfl ?_
      refine w_inon (u := none) rfl rfl rfl (fun b hb => by cases hb) (fun hb => ?_)
      refine w_nx (pc' := 37) rfl ?_
      refine w_getR rfl rfl (hT) (congrArg va_rf (h7)) rfl ?_
      refine w_getI rfl rfl (hT3) rfl rfl ?_
      refine w_top (hr.1) ?_
      refine w_nx (pc' := 51) rfl ?_
      exact t2 none many hn.symm rfl (by omega)
    | some j =>
      obtain ⟨j1, j2, j3⟩ := hj j hn
      refine w_nx (pc' := 31) rfl ?_
      refine w_nx (pc' := 33) rfl ?_
      refine w_inon (u := some (265 + 2 * j)) rfl rfl rfl (fun b hb => ?_) (fun hb => by cases hb)
      refine w_nx (pc' := 48) rfl ?_
      refine w_getI rfl rfl (j1) rfl rfl ?_
      refine w_top (j2) ?_
      exact t2 (some j) j hn.symm rfl (by omega)
  have hj : ∀ j, nxO many out c l = some j → (gT z (265 + 2 * j)).1 = 6 ∧ gI z (265 + 2 * j) 0 = nI j ∧ j < many := fun j hj => by
    have hlt := nxO_lt hr hl hj
    have hm := h.2.2.2 j (by omega)
    exact ⟨by rw [hm.2.1], hm.2.2.1, hlt⟩
  refine w_of (k := 81) (m := aM_X7_wanted) rfl rfl ?_
  refine w_nx (pc' := 1) rfl ?_
  refine w_nx (pc' := 2) rfl ?_
  refine w_getR rfl rfl (hT) (congrArg va_rf (h7)) rfl ?_
  refine w_getI rfl rfl (hT3) rfl rfl ?_
  refine w_top (hr.1) ?_
  refine w_ncge rfl rfl rfl (rfl) (rfl) (by omega) (by omega) (fun hcm => ?_) (fun hcm => ?_)
  · refine w_nx (pc' := 29) rfl ?_
    refine tail none ?_ hj
    unfold nxO
    rw [if_neg (by omega)]
    rfl
  · have hm := h.2.2.2 c (by omega)
    have hTc : (gT z (265 + 2 * c)).1 = 6 := by rw [hm.2.1]
    refine w_nx (pc' := 12) rfl ?_
    refine w_getR rfl rfl (hT) (congrArg va_rf (h7)) rfl ?_
    refine w_getR rfl rfl (hT3) (congrArg va_rf (h.2.1)) rfl ?_
    refine w_nx (pc' := 19) rfl ?_
    refine w_ald rfl (fun _ _ _ _ _ _ => rfl) (h.2.2.1) rfl (rfl) (by omega) (by decide) (congrArg va_rf (hm.1)) rfl ?_
    refine w_getR rfl rfl (hTc) (congrArg va_rf (hm.2.2.2.1)) rfl ?_
    refine w_nx (pc' := 24) rfl ?_
    refine w_ald rfl (fun _ _ _ _ _ _ => rfl) (hm.2.2.2.2) rfl (rfl) (by omega) (by decide) (rfl) rfl ?_
    refine w_nx (pc' := 29) rfl ?_
    exact tail _ (nxO_R hr hl hcm) hj
