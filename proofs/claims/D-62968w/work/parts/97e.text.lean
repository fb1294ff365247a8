/-! TraceWarden.text: the bytes of a long -/
set_option maxRecDepth 100000
/-- a byte of a long -/
def bw (x : Int64) (k : Nat) : Nat := x.toBitVec.toNat / 2 ^ (8 * k) % 256
theorem bw_lt (x : Int64) (k : Nat) : bw x k < 256 := Nat.mod_lt _ (by decide)
theorem sh8 : ∀ k, k < 8 → (nI (8 * k)).toInt64.toUInt64 &&& Int64.toUInt64 63 = UInt64.ofNat (8 * k) := by decide
theorem l_and255 (b : BitVec 64) : (b &&& (255 : Int64).toBitVec).toNat = b.toNat % 256 := by
  rw [BitVec.toNat_and, show (255 : Int64).toBitVec.toNat = 2 ^ 8 - 1 from rfl, Nat.and_two_pow_sub_one_eq_mod]
theorem l_inj {a b : Int64} (h : a.toBitVec.toNat = b.toBitVec.toNat) : a = b := Int64.toBitVec_inj.mp (BitVec.eq_of_toNat_eq h)
theorem lN_tn {n : Nat} (h : n < 2 ^ 64) : (lN n).toBitVec.toNat = n := by
  show (BitVec.ofNat 64 n).toNat = n
  rw [BitVec.toNat_ofNat, Nat.mod_eq_of_lt h]
theorem l_ub (x : Int64) {k : Nat} (hk : k < 8) : (x.toUInt64 >>> ((nI (8 * k)).toInt64.toUInt64 &&& Int64.toUInt64 63)).toInt64 &&& 255 = lN (bw x k) := by
  rw [sh8 k hk]
  apply l_inj
  rw [lN_tn (Nat.lt_trans (bw_lt x k) (by decide)), Int64.toBitVec_and, l_and255]
  show (x.toBitVec >>> ((UInt64.ofNat (8 * k)).toBitVec % 64#64)).toNat % 256 = _
  have e : ((UInt64.ofNat (8 * k)).toBitVec % 64#64).toNat = 8 * k := by
    have key : ∀ k, k < 8 → ((UInt64.ofNat (8 * k)).toBitVec % 64#64).toNat = 8 * k := by decide
    exact key k hk
  rw [BitVec.ushiftRight_eq', e, BitVec.toNat_ushiftRight, Nat.shiftRight_eq_div_pow]
  rfl
/-- how many bytes there are ahead of the first that is 0 -/
def nb (x : Int64) : Nat → Nat → Nat
  | 0, k => k
  | f + 1, k => if bw x k = 0 then k else nb x f (k + 1)
def nbs (x : Int64) : Nat := nb x 8 0
def goodB (x : Int64) : Prop := ∀ i, i < nbs x → 33 ≤ bw x i ∧ bw x i ≤ 126
def byL (x : Int64) : List Nat := (List.range (nbs x)).map (bw x)
theorem nb_le (x : Int64) : ∀ f k, k ≤ nb x f k ∧ nb x f k ≤ k + f
  | 0, k => ⟨Nat.le_refl _, Nat.le_refl _⟩
  | f + 1, k => by
    unfold nb
    split
    · omega
    · have := nb_le x f (k + 1); omega
