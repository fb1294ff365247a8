/-! BITS: sets of obligations as numbers -/
theorem nI_bv (n : Nat) : (nI n).toBitVec = BitVec.ofNat 32 n := rfl
theorem nI_inj {a b : Nat} (ha : a < 2 ^ 32) (hb : b < 2 ^ 32) (h : nI a = nI b) : a = b := by
  have h1 := congrArg (fun x : Int32 => x.toBitVec.toNat) h
  simp only [nI_bv, BitVec.toNat_ofNat] at h1
  rwa [Nat.mod_eq_of_lt ha, Nat.mod_eq_of_lt hb] at h1
theorem i_ext {x y : Int32} (h : x.toBitVec = y.toBitVec) : x = y := Int32.toBitVec_inj.mp h
theorem nI_and (a b : Nat) : nI a &&& nI b = nI (a &&& b) := by
  apply i_ext
  show BitVec.ofNat 32 a &&& BitVec.ofNat 32 b = BitVec.ofNat 32 (a &&& b)
  apply BitVec.eq_of_getLsbD_eq
  intro i hi
  simp [BitVec.getLsbD_ofNat, hi]
theorem nI_or (a b : Nat) : nI a ||| nI b = nI (a ||| b) := by
  apply i_ext
  show BitVec.ofNat 32 a ||| BitVec.ofNat 32 b = BitVec.ofNat 32 (a ||| b)
  apply BitVec.eq_of_getLsbD_eq
  intro i hi
  simp [BitVec.getLsbD_ofNat, hi]
/-- t is part of s -/
def sb (t s : Nat) : Prop := t &&& s = t
theorem sb_iff {t s : Nat} : sb t s ↔ ∀ i, t.testBit i = true → s.testBit i = true := by
  constructor
  · intro h i hi
    have h1 := congrArg (fun n => n.testBit i) h
    simp only [Nat.testBit_and, hi, Bool.true_and] at h1
    exact h1
  · intro h
    apply Nat.eq_of_testBit_eq
    intro i
    rw [Nat.testBit_and]
    cases ht : t.testBit i with
    | false => rfl
    | true => rw [h i ht]; rfl
theorem sb_refl (s : Nat) : sb s s := Nat.and_self s
theorem sb_trans {a b c : Nat} (h1 : sb a b) (h2 : sb b c) : sb a c := sb_iff.mpr fun i hi => sb_iff.mp h2 i (sb_iff.mp h1 i hi)
theorem sb_antisymm {a b : Nat} (h1 : sb a b) (h2 : sb b a) : a = b := by
  unfold sb at h1 h2
  rw [Nat.and_comm] at h2
  rw [← h1, h2]
theorem sb_or {a b c : Nat} : sb (a ||| b) c ↔ sb a c ∧ sb b c := by
  constructor
  · intro h
    refine ⟨sb_iff.mpr fun i hi => sb_iff.mp h i ?_, sb_iff.mpr fun i hi => sb_iff.mp h i ?_⟩
    · rw [Nat.testBit_or, hi, Bool.true_or]
    · rw [Nat.testBit_or, hi, Bool.or_true]
  · intro ⟨h1, h2⟩
    refine sb_iff.mpr fun i hi => ?_
    rw [Nat.testBit_or, Bool.or_eq_true] at hi
    rcases hi with hi | hi
    · exact sb_iff.mp h1 i hi
    · exact sb_iff.mp h2 i hi
theorem sb_zero (s : Nat) : sb 0 s := Nat.zero_and s
theorem sb_le {a b : Nat} (h : sb a b) : a ≤ b := by
  rw [← h]
  exact Nat.and_le_right
/-- the machine's question whether t is part of s -/
theorem sb_ask {t s : Nat} (ht : t < 2 ^ 31) : nI t &&& (nI s ^^^ (-1)) = 0 ↔ sb t s := by
  rw [sb_iff]
  constructor
  · intro h i hi
    have hi32 : i < 32 := by
      apply Classical.byContradiction
      intro hc
      rw [Nat.testBit_lt_two_pow (Nat.lt_of_lt_of_le ht (Nat.pow_le_pow_right (by decide) (by omega)))] at hi
      cases hi
    have h1 := congrArg (fun x : Int32 => x.toBitVec.getLsbD i) h
    have h2 : (BitVec.ofNat 32 t &&& (BitVec.ofNat 32 s ^^^ BitVec.allOnes 32)).getLsbD i = (0#32).getLsbD i := h1
    simp only [BitVec.getLsbD_and, BitVec.getLsbD_xor, BitVec.getLsbD_ofNat, BitVec.getLsbD_allOnes, hi32, hi, Nat.zero_testBit, decide_true, Bool.true_and, Bool.and_true, Bool.xor_true, Bool.not_eq_false', Bool.and_false] at h2
    exact h2
  · intro h
    apply i_ext
    show BitVec.ofNat 32 t &&& (BitVec.ofNat 32 s ^^^ BitVec.allOnes 32) = 0#32
    apply BitVec.eq_of_getLsbD_eq
    intro i hi
    simp only [BitVec.getLsbD_and, BitVec.getLsbD_xor, BitVec.getLsbD_ofNat, BitVec.getLsbD_allOnes, hi, Nat.zero_testBit, decide_true, Bool.true_and, Bool.and_true, Bool.xor_true, Bool.and_false]
    cases ht' : t.testBit i with
    | false => rfl
    | true => rw [h i ht']; rfl
