/-! THE ABSTRACT MACHINE: one instruction. A configuration: pc, locals, operand stack, memory. -/
abbrev aCf : Type := Nat × List (Option Value) × List Value × aSt
/-- the locals behind a store -/
def aSto (L : List (Option Value)) (i : Nat) (v : Value) : List (Option Value) :=
  let L2 := if v.category = 2 then (L.set i (some v)).set (i + 1) none else L.set i (some v)
  match i with
  | 0 => L2
  | j + 1 => match L[j]? with
    | some (some w) => if w.category = 2 then L2.set j none else L2
    | _ => L2
def a_jp (pc : Nat) (off : Int) (L : List (Option Value)) (S : List Value) (z : aSt) : Option aCf := match ((pc : Int) + off).toNat? with
  | some t => some (t, L, S, z)
  | none => none
def a_br (c : Prop) [Decidable c] (pc : Nat) (off : Int) (L : List (Option Value)) (S : List Value) (z : aSt) : Option aCf := match ((pc : Int) + off).toNat? with
  | some t => if c then some (t, L, S, z) else some (pc + 3, L, S, z)
  | none => none
def a_ld (L : List (Option Value)) (i : Nat) (ok : Value → Bool) (pc : Nat) (S : List Value) (z : aSt) : Option aCf := match L[i]? with
  | some (some v) => if ok v = true then some (pc, L, v :: S, z) else none
  | _ => none
def a_isI : Value → Bool | .int _ => true | _ => false
def a_isL : Value → Bool | .long _ => true | _ => false
def a_isR : Value → Bool | .ref _ => true | .null => true | _ => false
def a_st (ok : Value → Bool) (L : List (Option Value)) (i pc : Nat) (S : List Value) (z : aSt) : Option aCf := match S with
  | v :: S => if ok v = true ∧ i + v.category ≤ L.length then some (pc, aSto L i v, S, z) else none
  | [] => none
def a_ii (f : Int32 → Int32 → Int32) (pc : Nat) (L : List (Option Value)) (S : List Value) (z : aSt) : Option aCf := match S with
  | .int y :: .int x :: S => some (pc, L, .int (f x y) :: S, z)
  | _ => none
def a_ll (f : Int64 → Int64 → Int64) (pc : Nat) (L : List (Option Value)) (S : List Value) (z : aSt) : Option aCf := match S with
  | .long y :: .long x :: S => some (pc, L, .long (f x y) :: S, z)
  | _ => none
def a_li (f : Int64 → Int32 → Int64) (pc : Nat) (L : List (Option Value)) (S : List Value) (z : aSt) : Option aCf := match S with
  | .int y :: .long x :: S => some (pc, L, .long (f x y) :: S, z)
  | _ => none
def a_i1 (f : Int32 → Value) (pc : Nat) (L : List (Option Value)) (S : List Value) (z : aSt) : Option aCf := match S with
  | .int x :: S => some (pc, L, f x :: S, z)
  | _ => none
def a_l1 (f : Int64 → Value) (pc : Nat) (L : List (Option Value)) (S : List Value) (z : aSt) : Option aCf := match S with
  | .long x :: S => some (pc, L, f x :: S, z)
  | _ => none
def a_if1 (c : Int32 → Prop) [DecidablePred c] (pc : Nat) (off : Int) (L : List (Option Value)) (S : List Value) (z : aSt) : Option aCf := match S with
  | .int x :: S => a_br (c x) pc off L S z
  | _ => none
def a_if2 (c : Int32 → Int32 → Prop) [∀ x y, Decidable (c x y)] (pc : Nat) (off : Int) (L : List (Option Value)) (S : List Value) (z : aSt) : Option aCf := match S with
  | .int y :: .int x :: S => a_br (c x y) pc off L S z
  | _ => none
def a_ref : Value → Option (Option Nat) | .null => some none | .ref a => some (some a) | _ => none
/-- two references that the machine may compare -/
def a_cmp (x y : Option Nat) : Bool := match x, y with
  | some a, some b => a == b || (Nat.ble 100 a && !(Nat.beq b 16)) || (Nat.ble 100 b && !(Nat.beq a 16)) || (Nat.blt a 13 && Nat.blt b 13)
  | _, _ => true
def a_ifa (eq : Bool) (pc : Nat) (off : Int) (L : List (Option Value)) (S : List Value) (z : aSt) : Option aCf := match S with
  | v :: w :: S => match a_ref v, a_ref w with
    | some y, some x => if a_cmp x y = true then (if eq = true then a_br (x = y) pc off L S z else a_br (¬ x = y) pc off L S z) else none
    | _, _ => none
  | _ => none
/-- a load from an array whose tag is one of ts -/
def a_al (ts : List Nat) (pc : Nat) (L : List (Option Value)) (S : List Value) (z : aSt) : Option aCf := match S with
  | .int i :: .ref a :: S => if ts.contains (gT z a).1 = true then (if i < 0 ∨ (gT z a).2 ≤ i.toNatClampNeg then none else some (pc, L, aVal z (gT z a).1 a i.toNatClampNeg :: S, z)) else none
  | _ => none
def a_as (t : Nat) (f : Int32 → Int32) (pc : Nat) (L : List (Option Value)) (S : List Value) (z : aSt) : Option aCf := match S with
  | .int x :: .int i :: .ref a :: S => if (gT z a).1 = t ∧ 100 ≤ a then (if i < 0 ∨ (gT z a).2 ≤ i.toNatClampNeg then none else some (pc, L, S, sI z a i.toNatClampNeg (f x))) else none
  | _ => none
def a_asl (pc : Nat) (L : List (Option Value)) (S : List Value) (z : aSt) : Option aCf := match S with
  | .long x :: .int i :: .ref a :: S => if (gT z a).1 = 44 ∧ 100 ≤ a then (if i < 0 ∨ (gT z a).2 ≤ i.toNatClampNeg then none else some (pc, L, S, sL z a i.toNatClampNeg x)) else none
  | _ => none
def a_asr (pc : Nat) (L : List (Option Value)) (S : List Value) (z : aSt) : Option aCf := match S with
  | v :: .int i :: .ref a :: S => match v with
    | .ref b => if aAst (gT z a).1 (gT z b).1 = true ∧ 100 ≤ a then (if i < 0 ∨ (gT z a).2 ≤ i.toNatClampNeg then none else some (pc, L, S, sR z a i.toNatClampNeg (some b))) else none
    | .null => if (Nat.ble 45 (gT z a).1 && Nat.blt (gT z a).1 50) = true ∧ 100 ≤ a then (if i < 0 ∨ (gT z a).2 ≤ i.toNatClampNeg then none else some (pc, L, S, sR z a i.toNatClampNeg none)) else none
    | _ => none
  | _ => none
def a_new (t n sl pc : Nat) (L : List (Option Value)) (S : List Value) (z : aSt) : Option aCf := some (pc, L, .ref (100 + gZ z) :: S, aNew z t n sl)
def a_newa (t pc : Nat) (L : List (Option Value)) (S : List Value) (z : aSt) : Option aCf := match S with
  | .int n :: S => if n < 0 ∨ 65536 ≤ n.toNatClampNeg then none else a_new t n.toNatClampNeg n.toNatClampNeg pc L S z
  | _ => none
def a_dup (pc : Nat) (L : List (Option Value)) (S : List Value) (z : aSt) : Option aCf := match S with
  | v :: S => if v.category = 1 then some (pc, L, v :: v :: S, z) else none
  | _ => none
def a_pop (pc : Nat) (L : List (Option Value)) (S : List Value) (z : aSt) : Option aCf := match S with
  | v :: S => if v.category = 1 then some (pc, L, S, z) else none
  | _ => none
def a_dupx1 (pc : Nat) (L : List (Option Value)) (S : List Value) (z : aSt) : Option aCf := match S with
  | v :: w :: S => if v.category = 1 ∧ w.category = 1 then some (pc, L, v :: w :: v :: S, z) else none
  | _ => none
def a_dup2 (pc : Nat) (L : List (Option Value)) (S : List Value) (z : aSt) : Option aCf := match S with
  | v :: w :: S => if v.category = 1 ∧ w.category = 1 then some (pc, L, v :: w :: v :: w :: S, z) else none
  | _ => none
def a_len (pc : Nat) (L : List (Option Value)) (S : List Value) (z : aSt) : Option aCf := match S with
  | .ref a :: S => if (Nat.ble 40 (gT z a).1 && Nat.blt (gT z a).1 60) = true then some (pc, L, .int (nI (gT z a).2) :: S, z) else none
  | _ => none
def a_get (own idx pc : Nat) (L : List (Option Value)) (S : List Value) (z : aSt) : Option aCf := match S with
  | .ref a :: S => match aFld own idx with
    | some (t, k) => if (gT z a).1 = t then some (pc, L, aVal z t a k :: S, z) else none
    | none => none
  | _ => none
def a_put (own idx pc : Nat) (ini : Bool) (L : List (Option Value)) (S : List Value) (z : aSt) : Option aCf := match S with
  | v :: .ref a :: S => match aFld own idx with
    | some (t, k) => if (gT z a).1 = t ∧ 100 ≤ a ∧ aMay own t k ini = true then (match aPut z t a k v with
      | some z' => some (pc, L, S, z')
      | none => none) else none
    | none => none
  | _ => none
def a_cast (own idx pc : Nat) (L : List (Option Value)) (S : List Value) (z : aSt) : Option aCf := match S with
  | .ref a :: S => if aCst own idx = some (gT z a).1 then some (pc, L, .ref a :: S, z) else none
  | _ => none
def a_tsw (dflt lo hi : Int) (offs : Array Int) (pc : Nat) (L : List (Option Value)) (S : List Value) (z : aSt) : Option aCf := match S with
  | .int x :: S => if x.toInt < lo ∨ hi < x.toInt then a_jp pc dflt L S z else (match offs[(x.toInt - lo).toNat]? with
    | some off => a_jp pc off L S z
    | none => none)
  | _ => none
def a_lsw (dflt : Int) (ps : Array (Int × Int)) (pc : Nat) (L : List (Option Value)) (S : List Value) (z : aSt) : Option aCf := match S with
  | .int x :: S => if (ps.toList.zip (ps.toList.drop 1)).all (fun (a, next) => a.1 < next.1) = true then a_jp pc (Op.lookupswitch.offset ps.toList dflt x.toInt) L S z else none
  | _ => none
def a_iinc (i : Nat) (n : Int) (pc : Nat) (L : List (Option Value)) (S : List Value) (z : aSt) : Option aCf := match L[i]? with
  | some (some (.int x)) => some (pc, aSto L i (.int (x + Int32.ofInt n)), S, z)
  | _ => none
def a_obj (own idx pc : Nat) (L : List (Option Value)) (S : List Value) (z : aSt) : Option aCf := match S with
  | .ref _ :: S => if aObj own idx = some () ∧ S.length ≤ 12 then some (pc, L, S, z) else none
  | _ => none
/-- an element that an Object[] may hold -/
def a_elo (z : aSt) : Option Nat → Bool
  | none => true
  | some b => aAst 49 (gT z b).1
/-- arrays between which one may copy: of one class, or from constant bytes -/
def a_same (ts td : Nat) : Bool := Nat.beq ts td || (Nat.beq td 43 && Nat.ble 51 ts && Nat.blt ts 60)
/-- System.arraycopy between arrays of one class; bytes must fit -/
def a_acp (pc : Nat) (L : List (Option Value)) (S : List Value) (z : aSt) : Option aCf := match S with
  | .int n :: .int dp :: .ref d :: .int sp :: .ref s :: S =>
    if a_same (gT z s).1 (gT z d).1 = true ∧ 100 ≤ d ∧ S.length ≤ 12 then
      (if n < 0 ∨ sp < 0 ∨ dp < 0 ∨ (gT z s).2 < sp.toNatClampNeg + n.toNatClampNeg ∨ (gT z d).2 < dp.toNatClampNeg + n.toNatClampNeg then none else
        (if (gT z d).1 = 40 then some (pc, L, S, (z.1, a_cpy z.2.1 s sp.toNatClampNeg d dp.toNatClampNeg n.toNatClampNeg, z.2.2))
        else if (gT z d).1 = 43 then (if (List.range n.toNatClampNeg).all (fun i => decide (vp_nar .byte (gI z s (sp.toNatClampNeg + i)) = gI z s (sp.toNatClampNeg + i))) = true then some (pc, L, S, (z.1, a_cpy z.2.1 s sp.toNatClampNeg d dp.toNatClampNeg n.toNatClampNeg, z.2.2)) else none)
        else if (gT z d).1 = 49 then (if (List.range n.toNatClampNeg).all (fun i => a_elo z (gR z s (sp.toNatClampNeg + i))) = true then some (pc, L, S, (z.1, z.2.1, z.2.2.1, a_cpy z.2.2.2.1 s sp.toNatClampNeg d dp.toNatClampNeg n.toNatClampNeg, z.2.2.2.2)) else none)
        else none)) else none
  | _ => none
/-- getClass() of an Object[] -/
def a_gcl (pc : Nat) (L : List (Option Value)) (S : List Value) (z : aSt) : Option aCf := match S with
  | .ref a :: S => if (gT z a).1 = 49 ∧ S.length ≤ 12 then some (pc, L, .ref 16 :: S, z) else none
  | _ => none
/-- String.checkIndex, in range -/
def a_chx (pc : Nat) (L : List (Option Value)) (S : List Value) (z : aSt) : Option aCf := match S with
  | .int n :: .int i :: S => if 0 ≤ i ∧ i < n ∧ S.length ≤ 4 then some (pc, L, S, z) else none
  | _ => none
def a_dv (f : Int32 → Int32 → Int32) (pc : Nat) (L : List (Option Value)) (S : List Value) (z : aSt) : Option aCf := match S with
  | .int y :: .int x :: S => if y = 0 then none else some (pc, L, .int (f x y) :: S, z)
  | _ => none
def a_lcm (pc : Nat) (L : List (Option Value)) (S : List Value) (z : aSt) : Option aCf := match S with
  | .long y :: .long x :: S => some (pc, L, .int (lg_cmp x y) :: S, z)
  | _ => none
def a_inl (pc : Nat) (off : Int) (L : List (Option Value)) (S : List Value) (z : aSt) : Option aCf := match S with
  | .null :: S => a_jp pc off L S z
  | .ref _ :: S => some (pc + 3, L, S, z)
  | _ => none
def a_inn (pc : Nat) (off : Int) (L : List (Option Value)) (S : List Value) (z : aSt) : Option aCf := match S with
  | .null :: S => some (pc + 3, L, S, z)
  | .ref _ :: S => a_jp pc off L S z
  | _ => none
def a_bas (pc : Nat) (L : List (Option Value)) (S : List Value) (z : aSt) : Option aCf := match S with
  | _ :: _ :: .ref a :: _ => if (gT z a).1 = 42 then a_as 42 (vp_nar .boolean) pc L S z else a_as 43 (vp_nar .byte) pc L S z
  | _ => none
def a_cst (o : Option Value) (pc : Nat) (L : List (Option Value)) (S : List Value) (z : aSt) : Option aCf := match o with
  | some v => some (pc, L, v :: S, z)
  | none => none
def a_nwo (o : Option (Nat × Nat)) (pc : Nat) (L : List (Option Value)) (S : List Value) (z : aSt) : Option aCf := match o with
  | some q => a_new q.1 0 q.2 pc L S z
  | none => none
def a_nwa (o : Option Nat) (pc : Nat) (L : List (Option Value)) (S : List Value) (z : aSt) : Option aCf := match o with
  | some t => a_newa t pc L S z
  | none => none
def a_mth (f : Int32 → Int32 → Int32) (pc : Nat) (L : List (Option Value)) (S : List Value) (z : aSt) : Option aCf := match S with
  | .int y :: .int x :: S => if S.length ≤ 12 then some (pc, L, .int (f x y) :: S, z) else none
  | _ => none
def a_ord (pc : Nat) (L : List (Option Value)) (S : List Value) (z : aSt) : Option aCf := match S with
  | .ref a :: S => if a < 13 ∧ S.length ≤ 4 then some (pc, L, .int (nI a) :: S, z) else none
  | _ => none
def a_ist (own idx pc : Nat) (L : List (Option Value)) (S : List Value) (z : aSt) : Option aCf := match aAcp own idx with
  | some _ => a_acp pc L S z
  | none => match aChx own idx with
    | some _ => a_chx pc L S z
    | none => match aMax own idx with
      | some _ => a_mth (fun x y => if x < y then y else x) pc L S z
      | none => match aMin own idx with
        | some _ => a_mth (fun x y => if y < x then y else x) pc L S z
        | none => none
def a_ivi (own idx pc : Nat) (L : List (Option Value)) (S : List Value) (z : aSt) : Option aCf := match aOrd own idx with
  | some _ => a_ord pc L S z
  | none => match aGcl own idx with
    | some _ => a_gcl pc L S z
    | none => none
def aStep (own : Nat) (ini : Bool) (i : Instr) (pc : Nat) (L : List (Option Value)) (S : List Value) (z : aSt) : Option aCf := match i with
  | .iconst n => some (pc + 1, L, .int (Int32.ofInt n) :: S, z)
  | .bipush n => some (pc + 2, L, .int (Int8.ofInt n).toInt32 :: S, z)
  | .sipush n => some (pc + 3, L, .int (Int16.ofInt n).toInt32 :: S, z)
  | .lconst n => some (pc + 1, L, .long (Int64.ofNat n) :: S, z)
  | .aconst_null => some (pc + 1, L, .null :: S, z)
  | .iload_n k => a_ld L k a_isI (pc + 1) S z
  | .iload k => a_ld L k a_isI (pc + 2) S z
  | .lload_n k => a_ld L k a_isL (pc + 1) S z
  | .lload k => a_ld L k a_isL (pc + 2) S z
  | .aload_n k => a_ld L k a_isR (pc + 1) S z
  | .aload k => a_ld L k a_isR (pc + 2) S z
  | .istore_n k => a_st a_isI L k (pc + 1) S z
  | .istore k => a_st a_isI L k (pc + 2) S z
  | .lstore_n k => a_st a_isL L k (pc + 1) S z
  | .lstore k => a_st a_isL L k (pc + 2) S z
  | .astore_n k => a_st a_isR L k (pc + 1) S z
  | .astore k => a_st a_isR L k (pc + 2) S z
  | .iinc k n => a_iinc k n (pc + 3) L S z
  | .iadd => a_ii (fun x y => x + y) (pc + 1) L S z
  | .isub => a_ii (fun x y => x - y) (pc + 1) L S z
  | .imul => a_ii (fun x y => x * y) (pc + 1) L S z
  | .iand => a_ii (fun x y => x &&& y) (pc + 1) L S z
  | .ior => a_ii (fun x y => x ||| y) (pc + 1) L S z
  | .ixor => a_ii (fun x y => x ^^^ y) (pc + 1) L S z
  | .ishl => a_ii (fun x y => x <<< (y &&& 31)) (pc + 1) L S z
  | .ishr => a_ii (fun x y => x >>> (y &&& 31)) (pc + 1) L S z
  | .iushr => a_ii (fun x y => (x.toUInt32 >>> (y.toUInt32 &&& Int32.toUInt32 31)).toInt32) (pc + 1) L S z
  | .idiv => a_dv (fun x y => x / y) (pc + 1) L S z
  | .irem => a_dv (fun x y => x - x / y * y) (pc + 1) L S z
  | .ineg => a_i1 (fun x => .int (-x)) (pc + 1) L S z
  | .i2l => a_i1 (fun x => .long x.toInt64) (pc + 1) L S z
  | .i2b => a_i1 (fun x => .int x.toInt8.toInt32) (pc + 1) L S z
  | .i2c => a_i1 (fun x => .int (x.toUInt32 % 65536).toInt32) (pc + 1) L S z
  | .l2i => a_l1 (fun x => .int x.toInt32) (pc + 1) L S z
  | .land => a_ll (fun x y => x &&& y) (pc + 1) L S z
  | .lor => a_ll (fun x y => x ||| y) (pc + 1) L S z
  | .lshl => a_li (fun x y => x <<< (y.toInt64 &&& 63)) (pc + 1) L S z
  | .lshr => a_li (fun x y => x >>> (y.toInt64 &&& 63)) (pc + 1) L S z
  | .lushr => a_li (fun x y => (x.toUInt64 >>> (y.toInt64.toUInt64 &&& Int64.toUInt64 63)).toInt64) (pc + 1) L S z
  | .lcmp => a_lcm (pc + 1) L S z
  | .dup => a_dup (pc + 1) L S z
  | .pop => a_pop (pc + 1) L S z
  | .dup_x1 => a_dupx1 (pc + 1) L S z
  | .dup2 => a_dup2 (pc + 1) L S z
  | .goto off => a_jp pc off L S z
  | .ifCond .eq off => a_if1 (fun x => x = 0) pc off L S z
  | .ifCond .ne off => a_if1 (fun x => ¬ x = 0) pc off L S z
  | .ifCond .lt off => a_if1 (fun x => x < 0) pc off L S z
  | .ifCond .ge off => a_if1 (fun x => 0 ≤ x) pc off L S z
  | .ifCond .gt off => a_if1 (fun x => 0 < x) pc off L S z
  | .ifCond .le off => a_if1 (fun x => x ≤ 0) pc off L S z
  | .if_icmp .eq off => a_if2 (fun x y => x = y) pc off L S z
  | .if_icmp .ne off => a_if2 (fun x y => ¬ x = y) pc off L S z
  | .if_icmp .lt off => a_if2 (fun x y => x < y) pc off L S z
  | .if_icmp .ge off => a_if2 (fun x y => y ≤ x) pc off L S z
  | .if_icmp .gt off => a_if2 (fun x y => y < x) pc off L S z
  | .if_icmp .le off => a_if2 (fun x y => x ≤ y) pc off L S z
  | .if_acmp .eq off => a_ifa true pc off L S z
  | .if_acmp .ne off => a_ifa false pc off L S z
  | .ifnull off => a_inl pc off L S z
  | .ifnonnull off => a_inn pc off L S z
  | .iaload => a_al [40, 50] (pc + 1) L S z
  | .caload => a_al [41] (pc + 1) L S z
  | .baload => a_al [42, 43, 51, 52, 53, 54, 55, 56, 57, 58, 59] (pc + 1) L S z
  | .laload => a_al [44] (pc + 1) L S z
  | .aaload => a_al [45, 46, 47, 48, 49] (pc + 1) L S z
  | .iastore => a_as 40 (fun x => x) (pc + 1) L S z
  | .castore => a_as 41 (vp_nar .char) (pc + 1) L S z
  | .bastore => a_bas (pc + 1) L S z
  | .lastore => a_asl (pc + 1) L S z
  | .aastore => a_asr (pc + 1) L S z
  | .arraylength => a_len (pc + 1) L S z
  | .getfield idx => a_get own idx (pc + 3) L S z
  | .putfield idx => a_put own idx (pc + 3) ini L S z
  | .getstatic idx => a_cst (aSta own idx) (pc + 3) L S z
  | .ldc idx => a_cst (aLdc own idx) (pc + 2) L S z
  | .ldc2_w idx => a_cst ((aLd2 own idx).map Value.long) (pc + 3) L S z
  | .new idx => a_nwo (aNwt own idx) (pc + 3) L S z
  | .newarray .int => a_newa 40 (pc + 2) L S z
  | .newarray .char => a_newa 41 (pc + 2) L S z
  | .newarray .boolean => a_newa 42 (pc + 2) L S z
  | .newarray .byte => a_newa 43 (pc + 2) L S z
  | .newarray .long => a_newa 44 (pc + 2) L S z
  | .anewarray idx => a_nwa (aAnw own idx) (pc + 3) L S z
  | .checkcast idx => a_cast own idx (pc + 3) L S z
  | .tableswitch d lo hi offs => a_tsw d lo hi offs pc L S z
  | .lookupswitch d ps => a_lsw d ps pc L S z
  | .invokespecial idx => a_obj own idx (pc + 3) L S z
  | .invokestatic idx => a_ist own idx (pc + 3) L S z
  | .invokevirtual idx => a_ivi own idx (pc + 3) L S z
  | _ => none
