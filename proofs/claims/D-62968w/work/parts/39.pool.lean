/-! The pool of rows of Duties (104 the Duties, 111 its list of rows) -/
set_option maxRecDepth 100000
/-- an int, as a number -/
def vI (z : aSt) (b k : Nat) : Nat := (gI z b k).toBitVec.toNat
/-- a reference, null as 0 -/
def vR (z : aSt) (b k : Nat) : Nat := (gR z b k).getD 0
theorem nI_vI (z : aSt) (b k : Nat) : gI z b k = nI (vI z b k) := by
  apply i_ext
  apply BitVec.eq_of_toNat_eq
  show _ = (BitVec.ofNat 32 (gI z b k).toBitVec.toNat).toNat
  rw [BitVec.toNat_ofNat, Nat.mod_eq_of_lt (gI z b k).toBitVec.isLt]
theorem vI_of {z : aSt} {b k n : Nat} (h : gI z b k = nI n) (hn : n < 2 ^ 32) : vI z b k = n := by
  unfold vI
  rw [h]
  exact pk_tn hn
theorem nI_bit {t l : Nat} (ht : t < 2 ^ 31) (hl : l < 32) : nI t >>> (nI l &&& 31) &&& nI 1 = if t.testBit l = true then nI 1 else nI 0 := by
  rw [nI_shr ht hl, nI_and, Nat.and_one_is_mod, Nat.testBit_eq_decide_div_mod_eq]
  have h := Nat.mod_two_eq_zero_or_one (t / 2 ^ l)
  rcases h with h | h <;> rw [h] <;> rfl
/-- the pool: n rows of rs are lent; e its array, of c places -/
def pl (z : aSt) (n : Nat) (rs : List Nat) (e c : Nat) : Prop := isAL z 4 111 e c rs ∧ (gT z 104).1 = 3 ∧ lv z 104 ∧ gR z 104 7 = some 111 ∧ gI z 104 8 = nI n ∧ n ≤ rs.length ∧ rs.length ≤ 1000 ∧ rs.Nodup ∧ ∀ r ∈ rs, rowOk z r ∧ 468 ≤ r ∧ lv z (r + 1)
/-- what work with n rows lent may write -/
def plF (n : Nat) (rs : List Nat) (e : Nat) : Nat → Prop := fun b => b = 111 ∨ b = e ∨ ∃ i, n ≤ i ∧ i < rs.length ∧ rF (rs.getD i 0) b
theorem rowOk_fr2 {F : Nat → Prop} {z z' : aSt} {r : Nat} (h : rowOk z r) (f : fr F z z') (h1 : ¬ F r ∨ gR z' r 0 = gR z r 0) (hl : lv z (r + 1)) : rowOk z' r := by
  have hl0 : lv z r := Nat.lt_of_succ_lt hl
  refine ⟨(f.2.1 r hl0).trans h.1, ?_, (f.2.1 _ hl).trans h.2.2.1, h.2.2.2⟩
  rcases h1 with g | g
  · exact ((f.2.2 r hl0 g 0).2.2).trans h.2.1
  · exact g.trans h.2.1
theorem isRow_fr2 {F : Nat → Prop} {z z' : aSt} {r : Nat} {U : Nat → Prop} (h : isRow z r U) (f : fr F z z') (h1 : ¬ F r) (h2 : ¬ F (r + 1)) (hl : lv z (r + 1)) : isRow z' r U := by
  obtain ⟨l, a, b, c⟩ := h
  have hl0 : lv z r := Nat.lt_of_succ_lt hl
  exact ⟨l, ⟨rowOk_fr2 a.1 f (.inl h1) hl, ((f.2.2 r hl0 h1 1).1).trans a.2.1, fun i hi => ((f.2.2 _ hl h2 i).1).trans (a.2.2 i hi)⟩, b, c⟩
theorem x_rinit {d r : Nat} {z : aSt} (hT : gT z r = (4, 0)) (h1 : 100 ≤ r) (h2 : r + 1 = 100 + gZ z) : aW (d + 1) 64 [.ref r] z (fun o z' => o = .inl none ∧ rowOk z' r ∧ fr (fun b => b = r) z z' ∧ gZ z' = gZ z + 1 ∧ gS z' = gS z + 128) := by
  have hl : r ≠ 100 + gZ z := by omega
  have hT1 : gT (aNew z 40 128 128) r = (4, 0) := by rw [gT_new, if_neg hl]; exact hT
  have hT2 : (gT (aNew z 40 128 128) r).1 = 4 := by rw [hT1]
  refine w_of (k := 64) (m := aM_X4_init) rfl rfl ?_
  refine w_nx (pc' := 1) rfl ?_
  refine w_nx (pc' := 4) rfl ?_
  refine w_nx (pc' := 5) rfl ?_
  refine w_nx (pc' := 8) (S' := .int (nI 128) :: _) rfl ?_
  refine w_newa (t := 40) (pc' := 10) rfl rfl (rfl) (by decide) ?_
  refine w_put rfl rfl hT2 h1 rfl rfl rfl ?_
  refine w_fin rfl ⟨rfl, ⟨hT1, ?_, ?_, h1⟩, fr_old fr_new (fr_sR (F := fun b => b = r) fun _ => rfl) (fun b _ g => g), rfl, rfl⟩
  · rw [gR_same, h2]
  · rw [h2]
    exact if_pos rfl
theorem x_lend {d n e c : Nat} {rs : List Nat} {z : aSt} (h : pl z n rs e c) (hn : n ≤ 900) (hZ : 368 ≤ gZ z) : aW (d + 7) 61 [.ref 104] z (fun o z' => ∃ (rs' : List Nat) (e' c' : Nat), pl z' (n + 1) (rs ++ rs') e' c' ∧ o = .inl (some (.ref ((rs ++ rs').getD n 0))) ∧ fr (fun b => b = 111 ∨ b = e ∨ b = 104) z z' ∧ (∀ k, gR z' 104 k = gR z 104 k) ∧ (∀ k, k ≠ 8 → gI z' 104 k = gI z 104 k) ∧ (e' = e ∨ 100 + gZ z ≤ e') ∧ (∀ r ∈ rs', 100 + gZ z ≤ r) ∧ (rs ++ rs').length ≤ max rs.length (n + 1) ∧ gZ z' + 3 * rs.length ≤ gZ z + 3 * (rs ++ rs').length ∧ gS z' + 4 * c + 130 * rs.length ≤ gS z + 4 * c' + 130 * (rs ++ rs').length) := by
  obtain ⟨h1, h2, h3, h4, h5, h6, h7, h8, h9⟩ := h
  have hTL : (gT z 111).1 = 2 := by rw [h1.1]
  have he104 : e ≠ 104 := fun g => by rw [← g, h1.2.2.2.2.2.1] at h2; cases h2
  refine w_of (k := 61) (m := aM_X3_lend) rfl rfl ?_
  refine w_nx (pc' := 1) rfl ?_
  refine w_getI rfl rfl (h2) rfl rfl ?_
  refine w_top (h5) ?_
  refine w_nx (pc' := 5) rfl ?_
  refine w_getR rfl rfl (h2) (congrArg va_rf (h4)) rfl ?_
  obtain ⟨o, z1, e1, q1, q2⟩ := (j_size (d := d + 5) h1)
  subst q1
  rw [q2] at e1
  refine w_cal (pc' := 11) rfl (a_cv0 rfl rfl rfl (hTL) rfl rfl) (e1) ?_
  refine w_ncne rfl rfl rfl rfl rfl (by omega) (by omega) (fun hb => ?_) (fun hb => ?_)
  · refine w_nx (pc' := 30) rfl ?_
    refine w_getR rfl rfl (h2) (congrArg va_rf (h4)) rfl ?_
    refine w_nx (pc' := 34) rfl ?_
    refine w_nx (pc' := 35) rfl ?_
    refine w_getI rfl rfl (h2) rfl rfl ?_
    refine w_top (h5) ?_
    refine w_nx (pc' := 39) rfl ?_
    refine w_nx (pc' := 40) (S' := .int (nI 1) :: _) rfl ?_
    refine w_nx (pc' := 41) rfl ?_
    refine w_top (nI_add _ _) ?_
    refine w_put rfl rfl (h2) (by omega) rfl rfl rfl ?_
    have f0 : fr (fun b => b = 111 ∨ b = e ∨ b = 104) z (sI z 104 8 (nI (n + 1))) := fr_sI fun _ => .inr (.inr rfl)
    have hA : isAL (sI z 104 8 (nI (n + 1))) 4 111 e c rs := isAL_fr (F := fun b => b = 104) h1 (fr_sI fun _ => rfl) (by decide) (fun g => he104 g)
    have hi : n < rs.length := by omega
    obtain ⟨o, z1, e1, q1, q2⟩ := j_get (d := d + 3) hA hi (by omega)
    subst q1
    rw [q2] at e1
    refine w_cal (pc' := 47) rfl (a_cv0 rfl rfl rfl (hTL) rfl rfl) (e1) ?_
    refine w_cast rfl rfl (hA.2.2.2.2.2.2.2.2.2.2.2 _ (get_mem hi)).1 rfl ?_
    refine w_fin rfl ⟨[], e, c, ?_, ?_, f0, fun k => rfl, fun k hk => gI_nk hk, .inl rfl, (fun r hr => by cases hr), ?_, ?_, ?_⟩
    · rw [List.append_nil]
      exact ⟨hA, h2, h3, h4, gI_same .., by omega, h7, h8, fun r hr => h9 r hr⟩
    · rw [List.append_nil]
    · rw [List.append_nil]; omega
    · rw [List.append_nil]; exact Nat.le_refl _
    · rw [List.append_nil]; exact Nat.le_refl _
  · refine w_nx (pc' := 15) rfl ?_
    refine w_getR rfl rfl (h2) (congrArg va_rf (h4)) rfl ?_
    refine w_nx (pc' := 21) rfl ?_
    refine w_nx (pc' := 22) rfl ?_
    have hT1 : gT (aNew z 4 0 2) (100 + gZ z) = (4, 0) := if_pos rfl
    obtain ⟨o, z1, e1, q1, q2, q3, q4, q5⟩ := (x_rinit (d := d + 5) (z := aNew z 4 0 2) hT1 (Nat.le_add_right _ _) rfl)
    subst q1
    refine w_cal (pc' := 25) rfl (rfl) (e1) ?_
    have f1 : fr (fun _ => False) z z1 := fr_old fr_new q3 (fun b hb g => absurd g (lv_ne hb))
    have g4 : gZ z1 = gZ z + 2 := q4
    have g5 : gS z1 = gS z + 130 := q5
    have hA1 : isAL z1 4 111 e c rs := isAL_fr h1 f1 (fun g => g) (fun g => g)
    have hTn : gT z1 (100 + gZ z) = (4, 0) := q2.1
    have hln : lv z1 (100 + gZ z) := by unfold lv; omega
    have hTL1 : (gT z1 111).1 = 2 := by rw [hA1.1]
    obtain ⟨o, z2, e2, e', c', r1, r2, r3, r4, r5, r6⟩ := (j_add (d := d) hA1 (p := 100 + gZ z) rfl (by omega) (by rw [hTn]) hln)
    subst r1
    refine w_cal (pc' := 28) rfl (a_cv0 rfl rfl rfl (hTL1) rfl rfl) (e2) ?_
    have h2' : (gT z2 104).1 = 3 := by rw [r3.2.1 104 (lv_fr f1 h3), f1.2.1 104 h3]; exact h2
    have hne : ¬ (104 = 111 ∨ 104 = e) := fun g => g.elim (by decide) fun g => he104 g.symm
    have h4' : gR z2 104 7 = some 111 := by rw [(r3.2.2 104 (lv_fr f1 h3) hne 7).2.2, (f1.2.2 104 h3 (fun g => g) 7).2.2]; exact h4
    have h5' : gI z2 104 8 = nI n := by rw [(r3.2.2 104 (lv_fr f1 h3) hne 8).1, (f1.2.2 104 h3 (fun g => g) 8).1]; exact h5
    have hl2 : lv z2 104 := lv_fr r3 (lv_fr f1 h3)
    have hTL2 : (gT z2 111).1 = 2 := by rw [r2.1]
    have he104' : e' ≠ 104 := fun g => by rw [← g, r2.2.2.2.2.2.1] at h2'; cases h2'
    refine w_nx (pc' := 29) rfl ?_
    refine w_nx (pc' := 30) rfl ?_
    refine w_getR rfl rfl (h2') (congrArg va_rf (h4')) rfl ?_
    refine w_nx (pc' := 34) rfl ?_
    refine w_nx (pc' := 35) rfl ?_
    refine w_getI rfl rfl (h2') rfl rfl ?_
    refine w_top (h5') ?_
    refine w_nx (pc' := 39) rfl ?_
    refine w_nx (pc' := 40) (S' := .int (nI 1) :: _) rfl ?_
    refine w_nx (pc' := 41) rfl ?_
    refine w_top (nI_add _ _) ?_
    refine w_put rfl rfl (h2') (by omega) rfl rfl rfl ?_
    have hA : isAL (sI z2 104 8 (nI (n + 1))) 4 111 e' c' (rs ++ [100 + gZ z]) := isAL_fr (F := fun b => b = 104) r2 (fr_sI fun _ => rfl) (by decide) (fun g => he104' g)
    have hlen : (rs ++ [100 + gZ z]).length = rs.length + 1 := by rw [List.length_append]; rfl
    have hi : n < (rs ++ [100 + gZ z]).length := by omega
    obtain ⟨o, z3, e3, s1, s2⟩ := j_get (d := d + 3) hA hi (by omega)
    subst s1
    rw [s2] at e3
    refine w_cal (pc' := 47) rfl (a_cv0 rfl rfl rfl (hTL2) rfl rfl) (e3) ?_
    refine w_cast rfl rfl (hA.2.2.2.2.2.2.2.2.2.2.2 _ (get_mem hi)).1 rfl ?_
    refine w_fin rfl ⟨[100 + gZ z], e', c', ⟨hA, h2', hl2, h4', gI_same .., by omega, by omega, ?_, fun r hr => ?_⟩, rfl, ?_, fun k => ?_, fun k hk => ?_, ?_, (fun r hr => Nat.le_of_eq (List.mem_singleton.mp hr).symm), by omega, ?_, ?_⟩
    · rw [List.nodup_append]
      refine ⟨h8, List.nodup_cons.mpr ⟨fun h => (by cases h), List.nodup_nil⟩, fun a ha b hb g => ?_⟩
      rw [List.mem_singleton.mp hb] at g
      have := (h9 a ha).2.2
      unfold lv at this
      omega
    · rcases List.mem_append.mp hr with g | g
      · obtain ⟨k1, k2, k3⟩ := h9 r g
        have hl1 : lv z r := Nat.lt_of_succ_lt k3
        have hrr : rowOk z1 r := rowOk_fr2 k1 f1 (.inl fun g => g) k3
        have hr1 : r ≠ 111 := by omega
        have hr2 : r ≠ e := fun g => by
          have a1 := k1.1
          rw [g, h1.2.2.2.2.2.1] at a1
          cases a1
        exact ⟨(show rowOk z2 r from rowOk_fr2 hrr r3 (.inl fun g => g.elim hr1 hr2) (lv_fr f1 k3)), k2, (show lv z2 (r + 1) from lv_fr r3 (lv_fr f1 k3))⟩
      · rw [List.mem_singleton.mp g]
        have hr2 : 100 + gZ z ≠ e := fun g => by
          have a1 := h1.2.2.2.2.2.2.1
          unfold lv at a1
          omega
        have hlv1 : lv z1 (100 + gZ z + 1) := by unfold lv; omega
        exact ⟨(show rowOk z2 (100 + gZ z) from rowOk_fr2 q2 r3 (.inl fun g => g.elim (by omega) hr2) hlv1), by omega, (show lv z2 (100 + gZ z + 1) from lv_fr r3 hlv1)⟩
    · refine fr_old (fr_old (F := fun b => b = 111 ∨ b = e ∨ b = 104) (fr_mono f1 fun _ _ g => g.elim) r3 fun b _ g => g.elim .inl fun g => .inr (.inl g)) (fr_sI (F := fun b => b = 104) fun _ => rfl) (fun b _ g => .inr (.inr g))
    · exact ((r3.2.2 104 (lv_fr f1 h3) hne k).2.2).trans (f1.2.2 104 h3 (fun g => g) k).2.2
    · rw [gI_nk hk]
      exact ((r3.2.2 104 (lv_fr f1 h3) hne k).1).trans (f1.2.2 104 h3 (fun g => g) k).1
    · rcases r4 with g | g
      · exact .inl g
      · exact .inr (by omega)
    · show gZ z2 + 3 * rs.length ≤ _
      omega
    · show gS z2 + 4 * c + 130 * rs.length ≤ _
      omega
