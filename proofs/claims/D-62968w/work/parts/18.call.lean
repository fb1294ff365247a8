/-! SOUNDNESS, 9: calls, both outcomes -/
def aTbl (c : Code) (mm : aMi) : Prop := c.exceptionTable.toList.map (fun h => (h.startPc, h.endPc, h.handlerPc, h.catchType)) = (mHan mm).map (fun h => (h.1, h.2.1, h.2.2.1, h.2.2.2.2))
def aOut (D : aD) (r : aRes) (o : Outcome) : Prop := match r with
  | .inl v => o = .returned (v.map (aRh D))
  | .inr x => o = .threw (aMu D x)
def aEnd (D : aD) (r : aRes) (z z' : aSt) (s : State) (below : List Frame) : State → Prop := fun t => ∃ o, t.status = .running ∧ Ended t below o ∧ aOut D r o ∧ aRep D z' t.heap ∧ va_F (aA D) s t ∧
  ∃ L, s.WarmedH t.vm ∧ s.sameButNew ({ t with vm := s.vm } : State) L (gZ z' - gZ z) (gS z' - gS z) ∧ ∀ q ∈ L, aA D q.base
def aMet (l : Launch) (d k : Nat) (as : List Value) (z : aSt) (r : aRes) (z' : aSt) (D : aD) : Prop := ∀ mm, aMs[k]? = some mm →
  gZ z ≤ gZ z' ∧ gS z ≤ gS z' ∧ ∀ (p : Program) (e : Env) (R : Room) (s : State) (m : MethodId) (below : List Frame) (meth : Method) (c : Code), aCx p s m meth c D mm → aTbl c mm → gZ z' - gZ z ≤ R.cells → gS z' - gS z ≤ R.slots → d + 8 ≤ R.frames → 200 + 80 * d ≤ R.locals → aRep D z s.heap →
    W p l e R s m (as.map (aRh D)).toArray below meth c s.heap [] 0 0 (aEnd D r z z' s below) (entryFrame m (as.map (aRh D)).toArray (mLoc mm))
/-- the machine stands before the callee's entry -/
def aInv (p : Program) (l : Launch) (e : Env) (R : Room) (s : State) (m : MethodId) (args : Array Value) (below : List Frame) (meth : Method) (c : Code) (T : State) (locs : List Loc) (cells slots : Nat) (g : JFrame) (rest : List Value) (y : MethodName) (A : Array Value) : Prop :=
  ∃ vm₁ mk, Stand p l e R s m args below meth c (T.setVm vm₁) locs cells slots ∧ (T.setVm vm₁).methodNamed? y = some mk ∧ ∀ tg, (∀ acts, Steps p.tables e below (doInvoke e ((T.setVm vm₁).setTop { g with stack := rest }) acts mk A).1 tg) → Steps p.tables e below (T.setTop g) tg
section CALL
variable {p : Program} {l : Launch} {e : Env} {R : Room} {s : State} {m : MethodId} {args : Array Value} {below : List Frame} {meth : Method} {c : Code} {T : State} {locs : List Loc} {cells slots : Nat} {D : aD}
/-- what the tables say of a callee, in the state that calls it -/
theorem a_callee {mm : aMi} {mk : MethodId} {g : JFrame} {a : Array Value} {U : State} (hexec : p.tables.exec = Jvm.exec) (M : aMOK mm) (K : aKV D U) (hn : U.methodNamed? (mName mm) = some mk) (hA : aKV D (U.calling g mk a)) :
    ∃ methk ck, U.vm.method? mk = some methk ∧ methk.code = some ck ∧ methk.locks = false ∧ U.plainMethod mk ∧ ck.maxLocals = mLoc mm ∧ aCx p (U.calling g mk a) mk methk ck D mm ∧ aTbl ck mm := by
  obtain ⟨hcode, -, -, hpl, hown, hini, -, -, -⟩ := M
  have hpn : plainFor (mName mm) = true := plainFor_of_name hpl
  have key : ∃ methk ck, U.vm.method? mk = some methk ∧ methk.code = some ck ∧ ck.code = mBytes mm ∧ ck.maxLocals = mLoc mm ∧ methk.sig.returnType = mRet mm ∧ methk.locks = false ∧ aTbl ck mm := by
    rcases hcode with ⟨hc, hh⟩ | ⟨hc, -⟩
    · obtain ⟨methk, ck, h1, h2, h3, h4, h5, h6, h7, -⟩ := Cond.code_spec hn (K.word hc #[])
      refine ⟨methk, ck, h1, h2, h3, h4, h5, h6, ?_⟩
      have e1 : ck.exceptionTable.toList = [] := by
        have h0 : ck.exceptionTable.size = 0 := by simpa [Array.isEmpty] using h7
        exact List.eq_nil_of_length_eq_zero (by simpa using h0)
      have e2 : mHan mm = [] := hh
      unfold aTbl
      rw [e1, e2]
      rfl
    · obtain ⟨m9, methk, ck, hn9, h1, h2, h3, h4, h5, h6, h7, -⟩ := Cond.codeWith_spec (K.word hc #[])
      cases hn.symm.trans hn9
      exact ⟨methk, ck, h1, h2, h3, h4, h6, h7, h5⟩
  obtain ⟨methk, ck, h1, h2, h3, h4, h5, h6, h7⟩ := key
  refine ⟨methk, ck, h1, h2, h6, State.plainMethod.of_named hpn hn h1, h4, ⟨hexec, h3, h4, h5, h6, ?_, hA, fun hi => ?_⟩, h7⟩
  · show U.vm.findClass (aOwn (mOwn mm)) = some mk.cls
    rw [show aOwn (mOwn mm) = (mName mm).cls from hown]
    exact findClass_of_methodNamed hn
  · rw [(name_of_methodNamed hn h1).1]
    exact hini hi
/-- the call's run: its end stands over the caller's frame -/
theorem a_run {d k : Nat} {as : List Value} {z z' : aSt} {r : aRes} {mm : aMi} {g : JFrame} {rest : List Value} {ig : Instr} {A : Array Value} (hexec : p.tables.exec = Jvm.exec) (hMt : aMet l d k as z r z' D) (hk : aMs[k]? = some mm) (M : aMOK mm) (K : aKV D s) (hI : aInv p l e R s m args below meth c T locs cells slots g rest (mName mm) A)
    (hA : A = (as.map (aRh D)).toArray) (hR : aRep D z T.heap) (hS : va_S (aA D) s.heap T.heap locs) (hg : g.method = m) (hsize : g.locals.size = c.maxLocals) (hmr : g.monitorRoom = 0) (hrest : rest.length ≤ 12) (hdg : decode c.code g.pc = .ok (ig, 3))
    (hf : d + 9 ≤ R.frames) (hlo : 280 + 80 * d ≤ R.locals) (hc : cells + (gZ z' - gZ z) ≤ R.cells) (hs : slots + (gS z' - gS z) ≤ R.slots) :
    ∃ (o : Outcome) (T' : State) (L : List Loc), aOut D r o ∧ Stand p l e R s m args below meth c T' (locs ++ L) (cells + (gZ z' - gZ z)) (slots + (gS z' - gS z)) ∧ aRep D z' T'.heap ∧ va_S (aA D) s.heap T'.heap (locs ++ L) ∧
      (∀ v, o = .returned v → ∀ tg, Steps p.tables e below (T'.setTop { g with pc := g.pc + 3, stack := v.toList ++ rest }) tg → Steps p.tables e below (T.setTop g) tg) ∧
      (∀ x, o = .threw x → ∀ tg, Steps p.tables e below ((T'.setTop { g with stack := rest }).pushFrame (.throwing x)) tg → Steps p.tables e below (T.setTop g) tg) := by
  obtain ⟨vm₁, mk, X, hn, step⟩ := hI
  have hsum : (rest.map fun v => v.category).sum ≤ 24 := by
    have h2 : ∀ l : List Value, (l.map fun v => v.category).sum ≤ 2 * l.length := by
      intro l
      induction l with
      | nil => simp
      | cons v l ih =>
        have : v.category ≤ 2 := by rcases lv_cat v with h | h <;> omega
        simp only [List.map_cons, List.sum_cons, List.length_cons]
        omega
    have := h2 rest
    omega
  have KU : aKV D (T.setVm vm₁) := K.moved X.warmed (fun a h1 h2 => hS.2.1 a h1 h2)
  have KC : aKV D ((T.setVm vm₁).calling { g with stack := rest } mk A) := K.moved (U := (T.setVm vm₁).calling { g with stack := rest } mk A) X.warmed (fun a h1 h2 => hS.2.1 a h1 h2)
  obtain ⟨methk, ck, h1, h2, h3, h4, h5, hCx, hTb⟩ := a_callee (p := p) hexec M KU hn KC
  have hml : ck.maxLocals ≤ 30 := by
    rw [h5]
    exact M.2.2.2.2.2.2.2.2
  obtain ⟨X', hdo⟩ := X.into (g := { g with stack := rest }) hg hsize hdg A (R' := { frames := d + 8, cells := gZ z' - gZ z, slots := gS z' - gS z, locals := 200 + 80 * d }) h1 h2 h3 h4 (by show d + 8 + 1 ≤ _; omega) (by
    show 2 * ({ g with stack := rest } : JFrame).monitorRoom + (rest.map fun v => v.category).sum + (ck.maxLocals + 11) + (200 + 80 * d) ≤ R.locals
    rw [show ({ g with stack := rest } : JFrame).monitorRoom = 0 from hmr]
    omega) hc hs
  obtain ⟨-, -, hW⟩ := hMt mm hk
  subst hA
  obtain ⟨t, a1, o, b1, b2, b3, b4, b5, L, b6, b7, b8⟩ := hW p e _ _ mk (.java { g with stack := rest } :: below) methk ck hCx hTb (Nat.le_refl _) (Nat.le_refl _) (Nat.le_refl _) (Nat.le_refl _) (show aRep D z T.heap from hR) _ (by rfl) X'
  have hmono : ∀ {a b : State}, Steps p.tables e (.java { g with stack := rest } :: below) a b → Steps p.tables e below a b := fun h => Steps.weaken (mid := [.java { g with stack := rest }]) h
  have hgo : ∀ acts, Steps p.tables e below (doInvoke e ((T.setVm vm₁).setTop { g with stack := rest }) acts mk (as.map (aRh D)).toArray).1 t := fun acts => by
    rw [hdo acts, h5]
    rw [h5] at a1
    exact hmono a1
  have hVS : ∀ T' : State, T'.heap = t.heap → va_S (aA D) s.heap T'.heap (locs ++ L) := fun T' hT' => by
    rw [hT']
    refine ⟨Nat.le_trans hS.1 b5.1, fun q q1 q2 => ?_, fun q hq => ?_⟩
    · have e1 : t.heap[q]? = T.heap[q]? := b5.2 q (Nat.lt_of_lt_of_le q1 hS.1) q2
      rw [e1, hS.2.1 q q1 q2]
    · rcases List.mem_append.mp hq with h | h
      · exact hS.2.2 q h
      · exact b8 q h
  cases o with
  | returned v =>
    obtain ⟨T', X2, -, -, ht⟩ := X.outOf (g := { g with stack := rest }) hg hdg b2 b6 b7
    have hh : T'.heap = t.heap := by rw [ht]; rfl
    refine ⟨.returned v, T', L, b3, X2, by rw [hh]; exact b4, hVS T' hh, fun v' hv tg htg => ?_, fun x hx => by cases hx⟩
    cases hv
    exact step tg fun acts => (hgo acts).trans (by rw [ht]; exact htg)
  | threw x =>
    obtain ⟨T', X2, -, -, ht⟩ := X.outOfThrown (g := { g with stack := rest }) hg b2 b6 b7
    have hh : T'.heap = t.heap := by rw [ht]; rfl
    refine ⟨.threw x, T', L, b3, X2, by rw [hh]; exact b4, hVS T' hh, (fun v' hv => by cases hv), fun x' hx tg htg => ?_⟩
    cases hx
    exact step tg fun acts => (hgo acts).trans (by rw [ht]; exact htg)
end CALL
