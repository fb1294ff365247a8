/-! Duties.walk: the loop over ends -/
set_option maxRecDepth 100000
theorem a_cmp_big {u : Option Nat} {p : Nat} (h : u ≠ some 16) (hp : 100 ≤ p) : a_cmp u (some p) = true := by
  cases u with
  | none => rfl
  | some a =>
    have h1 : Nat.ble 100 p = true := Nat.ble_eq.mpr hp
    have h2 : Nat.beq a 16 = false := by
      cases e : Nat.beq a 16 with
      | false => rfl
      | true => exact absurd (congrArg some (Nat.eq_of_beq_eq_true e)) h
    unfold a_cmp
    simp only [h1, h2, Bool.not_false, Bool.and_self, Bool.or_true, Bool.true_or]
theorem tb_hi {F L k : Nat} (h : F < 512) : (F + 512 * L).testBit (9 + k) = L.testBit k := by
  rw [Nat.add_comm F, show (512 : Nat) = 2 ^ 9 from rfl, Nat.testBit_two_pow_mul_add _ h, if_neg (by omega), Nat.add_sub_cancel_left]
/-- the new end of obligation i -/
def endE (z : aSt) (p L i : Nat) : Int32 := if (¬ gI z 108 i = 0 ∧ gR z 109 i ≠ some p) ∨ L.testBit i = true then nI 1 else nI 0
theorem x_walkE {call : aRel} {Q : aRes → aSt → Prop} {p M F L : Nat} {due : Int32} {z1 : aSt} (hD : dutT z1) (hm : gI z1 104 0 = nI M) (hM : M ≤ 9) (hF : F < 512) (hL : L < 512) (hB : ∀ i, gR z1 109 i ≠ some 16) (h4 : 468 ≤ p)
    (next : ∀ z2, frI (fun b => b = 108) z1 z2 → (∀ i, gI z2 108 i = if i < M then endE z1 p L i else gI z1 108 i) → wR call aM_X3_walk Q 186 [some (.ref 104), some (.ref p), some (.int due), some (.int (nI (F + 512 * L))), some (.int (nI M))] [] z2) :
    ∀ (q k : Nat) (z2 : aSt), k + q = M → frI (fun b => b = 108) z1 z2 → (∀ i, gI z2 108 i = if i < k then endE z1 p L i else gI z1 108 i) → wR call aM_X3_walk Q 125 [some (.ref 104), some (.ref p), some (.int due), some (.int (nI (F + 512 * L))), some (.int (nI k))] [] z2 := by
  intro q
  induction q with
  | zero =>
    intro k z2 hk f hI
    have hT : (gT z2 104).1 = 3 := by rw [f.1, hD.1]
    have m2 : gI z2 104 0 = nI M := (f.2.2.2.2.2 104 (by decide) 0).trans hm
    refine w_nx (pc' := 127) rfl ?_
    refine w_nx (pc' := 128) rfl ?_
    refine w_getI rfl rfl (hT) rfl rfl ?_
    refine w_top (m2) ?_
    refine w_ncge rfl rfl rfl (rfl) (rfl) (by omega) (by omega) (fun hb => ?_) (fun hb => ?_)
    · have e : k = M := by omega
      subst e
      exact next z2 f hI
    · omega
  | succ q ih =>
    intro k z2 hk f hI
    obtain ⟨d1, d2, d3, d4, d5, d6, d7, d8, d9, d10, d11, d12⟩ := hD
    have hT : (gT z2 104).1 = 3 := by rw [f.1, d1]
    have m2 : gI z2 104 0 = nI M := (f.2.2.2.2.2 104 (by decide) 0).trans hm
    have r4 : gR z2 104 4 = some 108 := by rw [f.2.2.1]; exact d6
    have r5 : gR z2 104 5 = some 109 := by rw [f.2.2.1]; exact d7
    have t8 : gT z2 108 = (42, 9) := by rw [f.1]; exact d11
    have t9 : gT z2 109 = (45, 9) := by rw [f.1]; exact d12
    have i8 : gI z2 108 k = gI z1 108 k := by rw [hI k, if_neg (by omega)]
    have b9 : gR z2 109 k = gR z1 109 k := by rw [f.2.2.1]
    have fin : wR call aM_X3_walk Q 179 [some (.ref 104), some (.ref p), some (.int due), some (.int (nI (F + 512 * L))), some (.int (nI k))] [.int (endE z1 p L k), .int (nI k), .ref 108] z2 := by
      have hn : vp_nar .boolean (endE z1 p L k) = endE z1 p L k := by unfold endE; split <;> rfl
      refine w_zast rfl t8 (by decide) rfl (by omega) (by decide) rfl ?_
      rw [hn]
      refine w_iinc rfl rfl (nI_1 _) rfl rfl ?_
      refine w_nx (pc' := 125) rfl ?_
      refine ih (k + 1) _ (by omega) (frI_to f rfl) (fun i => ?_)
      rw [gI_sI, if_pos rfl]
      by_cases e : i = k
      · rw [if_pos e, if_pos (by omega), e]
      · rw [if_neg e, hI i]
        by_cases c : i < k
        · rw [if_pos c, if_pos (by omega)]
        · rw [if_neg c, if_neg (by omega)]
    have low : ¬ (¬ gI z1 108 k = 0 ∧ gR z1 109 k ≠ some p) → wR call aM_X3_walk Q 161 [some (.ref 104), some (.ref p), some (.int due), some (.int (nI (F + 512 * L))), some (.int (nI k))] [.int (nI k), .ref 108] z2 := by
      intro hno
      refine w_nx (pc' := 162) rfl ?_
      refine w_nx (pc' := 164) (S' := .int (nI 9) :: _) rfl ?_
      refine w_nx (pc' := 166) rfl ?_
      refine w_nx (pc' := 167) rfl ?_
      refine w_top (nI_add _ _) ?_
      refine w_nx (pc' := 168) rfl ?_
      refine w_nx (pc' := 169) (S' := .int (nI 1) :: _) rfl ?_
      refine w_nx (pc' := 170) rfl ?_
      refine w_top ((nI_bit (by omega) (by omega)).trans (by rw [tb_hi hF])) ?_
      refine w_nx (pc' := 171) (S' := .int (nI 1) :: _) rfl ?_
      by_cases hbit : L.testBit k = true
      · rw [if_pos hbit]
        refine w_icne rfl rfl rfl (fun h => absurd rfl h) (fun _ => ?_)
        have e : endE z1 p L k = nI 1 := by unfold endE; rw [if_pos (.inr hbit)]
        rw [e] at fin
        refine w_nx (pc' := 175) (S' := .int (nI 1) :: _) rfl ?_
        refine w_nx (pc' := 179) rfl ?_
        exact fin
      · rw [if_neg hbit]
        refine w_icne rfl rfl rfl (fun _ => ?_) (fun h => absurd (show ¬ nI 0 = nI 1 by decide) h)
        have e : endE z1 p L k = nI 0 := by unfold endE; rw [if_neg (fun g => g.elim hno hbit)]
        rw [e] at fin
        refine w_nx (pc' := 179) (S' := .int (nI 0) :: _) rfl ?_
        exact fin
    refine w_nx (pc' := 127) rfl ?_
    refine w_nx (pc' := 128) rfl ?_
    refine w_getI rfl rfl (hT) rfl rfl ?_
    refine w_top (m2) ?_
    refine w_ncge rfl rfl rfl (rfl) (rfl) (by omega) (by omega) (fun hb => ?_) (fun hb => ?_)
    · omega
    · refine w_nx (pc' := 135) rfl ?_
      refine w_getR rfl rfl (hT) (congrArg va_rf (r4)) rfl ?_
      refine w_nx (pc' := 140) rfl ?_
      refine w_nx (pc' := 141) rfl ?_
      refine w_getR rfl rfl (hT) (congrArg va_rf (r4)) rfl ?_
      refine w_nx (pc' := 146) rfl ?_
      refine w_ald rfl (fun _ _ _ _ _ _ => rfl) (t8) rfl (rfl) (by omega) (by decide) rfl rfl ?_
      refine w_top (i8) ?_
      refine w_ifeq rfl rfl rfl (fun h => low (fun g => g.1 h)) (fun hne => ?_)
      refine w_nx (pc' := 151) rfl ?_
      refine w_getR rfl rfl (hT) (congrArg va_rf (r5)) rfl ?_
      refine w_nx (pc' := 156) rfl ?_
      refine w_ald rfl (fun _ _ _ _ _ _ => rfl) (t9) rfl (rfl) (by omega) (by decide) (congrArg va_rf (b9)) rfl ?_
      refine w_nx (pc' := 158) rfl ?_
      refine w_an (u := gR z1 109 k) (v := some p) rfl rfl rfl (a_cmp_big (hB k) (by omega)) (fun hn => ?_) (fun he => low (fun g => g.2 he))
      have e : endE z1 p L k = nI 1 := by unfold endE; rw [if_pos (.inl ⟨hne, hn⟩)]
      rw [e] at fin
      refine w_nx (pc' := 175) (S' := .int (nI 1) :: _) rfl ?_
      refine w_nx (pc' := 179) rfl ?_
      exact fin
