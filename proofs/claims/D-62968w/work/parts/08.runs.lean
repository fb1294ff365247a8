/-! THE ABSTRACT MACHINE: runs. A method's end: an answer (.inl) or an exception (.inr its address). -/
abbrev aRes : Type := Option Value ⊕ Nat
def mOwn (m : aMi) : Nat := m.1.1
def mIni (m : aMi) : Bool := m.1.2
def mName (m : aMi) : MethodName := m.2.1
def mBytes (m : aMi) : ByteArray := m.2.2.1
def mLoc (m : aMi) : Nat := m.2.2.2.1
def mRet (m : aMi) : Option FieldType := m.2.2.2.2.1
def mHan (m : aMi) : List (Nat × Nat × Nat × Nat × Nat) := m.2.2.2.2.2.1
def mCode (m : aMi) : List (Nat × Instr × Nat) := m.2.2.2.2.2.2
def aAt (m : aMi) (pc : Nat) : Option Instr := match (mCode m).lookup pc with
  | some q => some q.1
  | none => none
def aNx (m : aMi) (pc : Nat) (L : List (Option Value)) (S : List Value) (z : aSt) : Option aCf := match aAt m pc with
  | some i => aStep (mOwn m) (mIni m) i pc L S z
  | none => none
/-- the handler of an exception of class t thrown at pc -/
def aHanL (pc t : Nat) : List (Nat × Nat × Nat × Nat × Nat) → Option Nat
  | [] => none
  | h :: hs => if (Nat.ble h.1 pc && Nat.blt pc h.2.1 && Nat.beq h.2.2.2.1 t) = true then some h.2.2.1 else aHanL pc t hs
/-- no handler covers pc -/
def aNoH (m : aMi) (pc : Nat) : Bool := (mHan m).all (fun h => !(Nat.ble h.1 pc && Nat.blt pc h.2.1))
/-- an exception's tag -/
def aExT (t : Nat) : Bool := Nat.ble 13 t && Nat.blt t 18
def aHan (m : aMi) (pc t : Nat) : Option Nat := aHanL pc t (mHan m)
/-- the method's end at this instruction -/
def aFin (m : aMi) (pc : Nat) (S : List Value) (z : aSt) : Option aRes := match aAt m pc with
  | some .ireturn => (match S with
    | [.int v] => (match mRet m with
      | some .int => some (.inl (some (.int v)))
      | some .boolean => if vp_nar .boolean v = v then some (.inl (some (.int v))) else none
      | some .char => if vp_nar .char v = v then some (.inl (some (.int v))) else none
      | some .byte => if vp_nar .byte v = v then some (.inl (some (.int v))) else none
      | _ => none)
    | _ => none)
  | some .areturn => (match S with
    | [.ref a] => (match mRet m with
      | some (.object _) => some (.inl (some (.ref a)))
      | some (.array _) => some (.inl (some (.ref a)))
      | _ => none)
    | [.null] => (match mRet m with
      | some (.object _) => some (.inl (some .null))
      | some (.array _) => some (.inl (some .null))
      | _ => none)
    | _ => none)
  | some .return_ => (match S with
    | [] => (match mRet m with
      | none => some (.inl none)
      | _ => none)
    | _ => none)
  | _ => none
/-- a call: the callee, its arguments, the stack below them -/
def aCall (m : aMi) (pc : Nat) (S : List Value) (z : aSt) : Option (Nat × List Value × List Value) := match aAt m pc with
  | some (.invokevirtual idx) => (match aCal (mOwn m) idx with
    | some (0, j, n, t) => (match S.drop n with
      | .ref a :: S0 => if n ≤ S.length ∧ (gT z a).1 = t ∧ S0.length ≤ 12 then some (j, .ref a :: (S.take n).reverse, S0) else none
      | _ => none)
    | some (4, j, n, t) => (match S.drop n with
      | .ref a :: S0 => if n ≤ S.length ∧ (gT z a).1 = t ∧ S0.length ≤ 12 then some (j, .ref a :: (S.take n).reverse, S0) else none
      | _ => none)
    | _ => none)
  | some (.invokestatic idx) => (match aCal (mOwn m) idx with
    | some (1, j, n, _) => if n ≤ S.length ∧ (S.drop n).length ≤ 12 then some (j, (S.take n).reverse, S.drop n) else none
    | _ => none)
  | some (.invokespecial idx) => (match aCal (mOwn m) idx with
    | some (2, j, n, _) => (match S.drop n with
      | .ref a :: S0 => if n ≤ S.length ∧ S0.length ≤ 12 then some (j, .ref a :: (S.take n).reverse, S0) else none
      | _ => none)
    | some (3, j, n, _) => (match S.drop n with
      | .ref a :: S0 => if n ≤ S.length ∧ S0.length ≤ 12 then some (j, .ref a :: (S.take n).reverse, S0) else none
      | _ => none)
    | some (5, j, n, t) => (match S.drop n with
      | .ref a :: S0 => if n ≤ S.length ∧ (gT z a).1 = t ∧ S0.length ≤ 12 then some (j, .ref a :: (S.take n).reverse, S0) else none
      | _ => none)
    | _ => none)
  | _ => none
/-- 'throw new X()': the exception's address, the memory with it -/
def aThr (m : aMi) (pc : Nat) (S : List Value) (z : aSt) : Option (Nat × aSt) := match aAt m pc, aAt m (pc + 3), aAt m (pc + 4), aAt m (pc + 7) with
  | some (.new i), some .dup, some (.invokespecial j), some .athrow => (match aNwt (mOwn m) i, aExc (mOwn m) j with
    | some q, some t => if q.1 = t ∧ aNoH m (pc + 7) = true ∧ S.length ≤ 12 then some (100 + gZ z, aNew z t 0 q.2) else none
    | _, _ => none)
  | _, _, _, _ => none
abbrev aRel : Type := Nat → List Value → aSt → aRes → aSt → Prop
/-- P is closed under steps that lead to the end (r, z') -/
def aClosed (call : aRel) (m : aMi) (r : aRes) (z' : aSt) (P : Nat → List (Option Value) → List Value → aSt → Prop) : Prop :=
  (∀ pc L S, aFin m pc S z' = some r → P pc L S z') ∧
  (∀ pc L S z (c : aCf), aNx m pc L S z = some c → P c.1 c.2.1 c.2.2.1 c.2.2.2 → P pc L S z) ∧
  (∀ pc L S z j as S0 v z1, aCall m pc S z = some (j, as, S0) → call j as z (.inl v) z1 → P (pc + 3) L (v.toList ++ S0) z1 → P pc L S z) ∧
  (∀ pc L S z j as S0 x z1 h, aCall m pc S z = some (j, as, S0) → call j as z (.inr x) z1 → aExT (gT z1 x).1 = true → aHan m pc (gT z1 x).1 = some h → P h L [.ref x] z1 → P pc L S z) ∧
  (∀ pc L S z j as S0 x, aCall m pc S z = some (j, as, S0) → call j as z (.inr x) z' → r = .inr x → aNoH m pc = true → P pc L S z) ∧
  (∀ pc L S z x, aThr m pc S z = some (x, z') → r = .inr x → P pc L S z)
def aRuns (call : aRel) (m : aMi) (pc : Nat) (L : List (Option Value)) (S : List Value) (z : aSt) (r : aRes) (z' : aSt) : Prop := ∀ P, aClosed call m r z' P → P pc L S z
/-- the locals at a method's entry -/
def aArgs : List Value → List (Option Value)
  | [] => []
  | v :: vs => if v.category = 2 then some v :: none :: aArgs vs else some v :: aArgs vs
def aEnt (m : aMi) (as : List Value) : Option (List (Option Value)) := if (aArgs as).length ≤ mLoc m then some (aArgs as ++ List.replicate (mLoc m - (aArgs as).length) none) else none
/-- method k, called with as in z, ends with r in z', by calls at most d deep -/
def aEx : Nat → aRel
  | 0 => fun _ _ _ _ _ => False
  | d + 1 => fun k as z r z' => ∃ (m : aMi) (L : List (Option Value)), aMs[k]? = some m ∧ aEnt m as = some L ∧ aRuns (aEx d) m 0 L [] z r z'
section RUNS
variable {call : aRel} {m : aMi} {pc : Nat} {L : List (Option Value)} {S S0 : List Value} {z z1 z' : aSt} {r : aRes}
theorem aRuns.fin (h : aFin m pc S z' = some r) : aRuns call m pc L S z' r z' := fun _ H => H.1 pc L S h
theorem aRuns.nx {c : aCf} (h : aNx m pc L S z = some c) (k : aRuns call m c.1 c.2.1 c.2.2.1 c.2.2.2 r z') : aRuns call m pc L S z r z' := fun P H => H.2.1 pc L S z c h (k P H)
theorem aRuns.cal {j : Nat} {as : List Value} {v : Option Value} (h : aCall m pc S z = some (j, as, S0)) (hc : call j as z (.inl v) z1) (k : aRuns call m (pc + 3) L (v.toList ++ S0) z1 r z') : aRuns call m pc L S z r z' := fun P H => H.2.2.1 pc L S z j as S0 v z1 h hc (k P H)
theorem aRuns.cat {j x h : Nat} {as : List Value} (h1 : aCall m pc S z = some (j, as, S0)) (hc : call j as z (.inr x) z1) (ht : aExT (gT z1 x).1 = true) (hh : aHan m pc (gT z1 x).1 = some h) (k : aRuns call m h L [.ref x] z1 r z') : aRuns call m pc L S z r z' := fun P H => H.2.2.2.1 pc L S z j as S0 x z1 h h1 hc ht hh (k P H)
theorem aRuns.thr {j x : Nat} {as : List Value} (h1 : aCall m pc S z = some (j, as, S0)) (hc : call j as z (.inr x) z') (hh : aNoH m pc = true) : aRuns call m pc L S z (.inr x) z' := fun P H => H.2.2.2.2.1 pc L S z j as S0 x h1 hc rfl hh
theorem aRuns.thn {x : Nat} (h : aThr m pc S z = some (x, z')) : aRuns call m pc L S z (.inr x) z' := fun P H => H.2.2.2.2.2 pc L S z x h rfl
end RUNS
