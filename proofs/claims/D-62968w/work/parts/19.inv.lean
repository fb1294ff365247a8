/-! SOUNDNESS, 10: the invoking instructions, up to the callee's entry -/
section INV
variable {p : Program} {l : Launch} {e : Env} {R : Room} {s : State} {m : MethodId} {args : Array Value} {below : List Frame} {meth : Method} {c : Code} {T : State} {locs : List Loc} {cells slots : Nat} {D : aD}
theorem a_sig {mm : aMi} (M : aMOK mm) (K : aKV D s) {n : Nat} (hp : (parseMethodDescriptor (mName mm).desc).map (fun d => d.parameters.length) = some n) : ∃ mk meth, s.methodNamed? (mName mm) = some mk ∧ s.vm.method? mk = some meth ∧ meth.sig.parameters.length = n := by
  have fin : ∀ meth : Method, parseMethodDescriptor (mName mm).desc = some meth.sig → meth.sig.parameters.length = n := fun meth h => by
    rw [h] at hp
    exact Option.some.inj hp
  rcases M.1 with ⟨hc, -⟩ | ⟨hc, -⟩
  · obtain ⟨mk, hn⟩ := Cond.code_named (K.word hc #[])
    obtain ⟨meth, c0, h1, -, -, -, -, -, -, h2⟩ := Cond.code_spec hn (K.word hc #[])
    exact ⟨mk, meth, hn, h1, fin meth h2⟩
  · obtain ⟨mk, meth, c0, hn, h1, -, -, -, -, -, -, h2⟩ := Cond.codeWith_spec (K.word hc #[])
    exact ⟨mk, meth, hn, h1, fin meth h2⟩
variable {own : String} {index n : Nat} {mm : aMi} {g : JFrame} {As rest : List Value} {b : Addr}
theorem aI_V (X : Stand p l e R s m args below meth c T locs cells slots) (hexec : p.tables.exec = Jvm.exec) (K : aKV D s) (M : aMOK mm) (hp : (parseMethodDescriptor (mName mm).desc).map (fun d => d.parameters.length) = some n) (hown : s.vm.findClass own = some m.cls)
    (hlink : (Cond.methodLink own index (mName mm)).before args s = true) (hinst : (Cond.instanceMethod (mName mm)).before args s = true) {C : String} (hsel : (Cond.selects C (mName mm) (mName mm)).before args s = true)
    {cellB : Cell} (hcell : T.heap[b]? = some cellB) (hobj : cellB.vm.isStatics = false) (hcls : s.vm.findClass C = some cellB.cls) (hg : g.method = m) (hn : As.length = n) (hstack : g.stack = As.reverse ++ .ref b :: rest) (hdg : decode c.code g.pc = .ok (.invokevirtual index, 3)) :
    aInv p l e R s m args below meth c T locs cells slots g rest (mName mm) (Value.ref b :: As).toArray := by
  obtain ⟨mk9, meth9, hnm9, hm9, hl9⟩ := a_sig M K hp
  obtain ⟨mk, methM, hnamed, hmethM, hstM, habM⟩ := Cond.instanceMethod_spec hinst
  cases hnm9.symm.trans hnamed
  cases hm9.symm.trans hmethM
  obtain ⟨c2, r2, m2, q1, q2, q3, q4, kP, hkP, hkPi⟩ := Cond.selects_spec hsel
  cases hcls.symm.trans q1
  cases (State.methodFound?_of_named hnamed M.2.2.1).symm.trans q2
  cases hnamed.symm.trans q3
  have hselP : selectMethod e.platform s.vm cellB.cls mk9 = .method mk9 := by rw [Launch.admits_selectMethod X.admits]; exact q4
  obtain ⟨vm₁, X₁, hstep₁⟩ := X.invokevirtual hexec hown hlink hnamed hmethM hstM hkP hkPi M.2.2.1 (a := b) (cell := cellB) hcell
    (fun z h => by rw [h] at hobj; cases hobj) hselP hmethM habM hkP hkPi (g := g) hg (argsL := As) (rest := rest) (by rw [hn, hl9]) hstack hdg
  exact ⟨vm₁, mk9, X₁, X₁.named hnamed, fun tg h => hstep₁ _ fun acts => h acts⟩
theorem aI_S (X : Stand p l e R s m args below meth c T locs cells slots) (hexec : p.tables.exec = Jvm.exec) (K : aKV D s) (M : aMOK mm) (hp : (parseMethodDescriptor (mName mm).desc).map (fun d => d.parameters.length) = some n) (hown : s.vm.findClass own = some m.cls)
    (hlink : (Cond.methodLink own index (mName mm)).before args s = true) (hstat : (Cond.static (mName mm)).before args s = true) (hg : g.method = m) (hn : As.length = n) (hstack : g.stack = As.reverse ++ rest) (hdg : decode c.code g.pc = .ok (.invokestatic index, 3)) :
    aInv p l e R s m args below meth c T locs cells slots g rest (mName mm) As.toArray := by
  obtain ⟨mk, methM, hnamed, hmethM, hl9⟩ := a_sig M K hp
  have hstatic : methM.isStatic = true := Cond.static_spec hnamed hmethM hstat
  obtain ⟨kP, hkP, -⟩ := className_of_methodNamed hnamed
  have hinitP : kP.init = .initialized := Cond.initialized_spec (findClass_of_methodNamed hnamed) hkP (K.word M.2.1 #[])
  obtain ⟨vm₁, X₁, hstep₁⟩ := X.invokestatic hexec hown hlink hnamed hmethM hstatic hkP hinitP M.2.2.1 (g := g) hg (argsL := As) (rest := rest) (by rw [hn, hl9]) hstack hdg
  exact ⟨vm₁, mk, X₁, X₁.named hnamed, fun tg h => hstep₁ _ fun acts => h acts⟩
theorem aI_I (X : Stand p l e R s m args below meth c T locs cells slots) (hexec : p.tables.exec = Jvm.exec) (K : aKV D s) (M : aMOK mm) (hp : (parseMethodDescriptor (mName mm).desc).map (fun d => d.parameters.length) = some n) (hown : s.vm.findClass own = some m.cls)
    (hy1 : (mName mm).name = "<init>") (hr : mRet mm = none) (hlink : (Cond.methodLink own index (mName mm)).before args s = true ∨ ∃ host, (Cond.methodLinkNest own index (mName mm) host).before args s = true) (hinst : (Cond.instanceMethod (mName mm)).before args s = true) (hg : g.method = m) (hn : As.length = n)
    (hstack : g.stack = As.reverse ++ .ref b :: rest) (hdg : decode c.code g.pc = .ok (.invokespecial index, 3)) : aInv p l e R s m args below meth c T locs cells slots g rest (mName mm) (Value.ref b :: As).toArray := by
  obtain ⟨mk9, meth9, hnm9, hm9, hl9⟩ := a_sig M K hp
  subst hg
  have hpl : e.platform.magicAccessors = ({} : Platform).magicAccessors := by rw [X.admits.platform]
  have hlen : ∀ sig, parseMethodDescriptor (mName mm).desc = some sig → As.length = sig.parameters.length := fun sig h => by
    rw [h] at hp
    rw [hn]
    exact (Option.some.inj hp).symm
  have hcode : (Cond.code (mName mm) (mBytes mm) (mLoc mm) none).before args s = true := by
    rcases M.1 with ⟨hc, -⟩ | ⟨-, hc⟩
    · have := K.word hc args
      rw [show mm.2.2.2.2.1 = none from hr] at this
      exact this
    · exact absurd hy1 hc
  rcases hlink with hlink | ⟨host, hlink⟩
  · obtain ⟨mk, methM, cM, kP, vm₁, hnamed, hmethM, hcodeM, -, hlocalsM, -, hkP, -, hW₁, hstep₁⟩ := Steps.initColdArgs (e := e) X.here hexec X.warmed hpl hown hy1 M.2.2.1 hlink hinst hcode (f := g) rfl hlen hstack hdg
    have X₁ := X.noted hW₁
    exact ⟨vm₁, mk, X₁, X₁.named hnamed, fun tg h => hstep₁ _ fun acts => h acts⟩
  · obtain ⟨mk, methM, cM, kP, vm₁, hnamed, hmethM, hcodeM, -, hlocalsM, -, hkP, -, hW₁, hstep₁⟩ := Steps.initColdArgsNest (e := e) X.here hexec X.warmed hpl hown hy1 M.2.2.1 hlink hinst hcode (f := g) rfl hlen hstack hdg
    have X₁ := X.noted hW₁
    exact ⟨vm₁, mk, X₁, X₁.named hnamed, fun tg h => hstep₁ _ fun acts => h acts⟩
theorem aI_U (X : Stand p l e R s m args below meth c T locs cells slots) (hexec : p.tables.exec = Jvm.exec) (K : aKV D s) (M : aMOK mm) (hown : s.vm.findClass own = some m.cls) {x : MethodName} (hp : (parseMethodDescriptor x.desc).map (fun d => d.parameters.length) = some n)
    (hlink : (Cond.methodLink own index x).before args s = true) (hsame : (Cond.sameMethod x.cls x.cls x.name x.desc).before args s = true) (hx : x.cls ≠ "java/lang/invoke/MethodHandle" ∧ x.cls ≠ "java/lang/invoke/VarHandle") {bx : ByteArray} {Lx : Nat} {rx : Option FieldType} (hix : (Cond.instanceMethod x).before args s = true) (hcx : (Cond.code x bx Lx rx).before args s = true)
    (hinst : (Cond.instanceMethod (mName mm)).before args s = true) {C : String} (hsel : (Cond.selects C x (mName mm)).before args s = true)
    {cellB : Cell} (hcell : T.heap[b]? = some cellB) (hobj : cellB.vm.isStatics = false) (hcls : s.vm.findClass C = some cellB.cls) (hg : g.method = m) (hn : As.length = n) (hstack : g.stack = As.reverse ++ .ref b :: rest) (hdg : decode c.code g.pc = .ok (.invokevirtual index, 3)) :
    aInv p l e R s m args below meth c T locs cells slots g rest (mName mm) (Value.ref b :: As).toArray := by
  obtain ⟨r0, r, hnr, hrm, hstR, hsigR⟩ := va_Decl.of hix hcx
  obtain ⟨cn, ck, r1, hcn, hck, hni, hf, hn1⟩ := Cond.sameMethod_found hsame
  cases hnr.symm.trans hn1
  obtain ⟨mk, methM, hnamed, hmethM, -, habM⟩ := Cond.instanceMethod_spec hinst
  obtain ⟨c2, r2, m2, q1, q2, q3, q4, kP, hkP, hkPi⟩ := Cond.selects_spec hsel
  cases hcls.symm.trans q1
  cases hf.symm.trans q2
  cases hnamed.symm.trans q3
  have hselP : selectMethod e.platform s.vm cellB.cls r0 = .method mk := by rw [Launch.admits_selectMethod X.admits]; exact q4
  have hlen : As.length = r.sig.parameters.length := by
    rw [hsigR] at hp
    rw [hn]
    exact (Option.some.inj hp).symm
  obtain ⟨vm₁, X₁, hstep₁⟩ := X.invokevirtualUp hexec hown hlink hsame hx hnr hrm hstR (a := b) (cell := cellB) hcell
    (fun z h => by rw [h] at hobj; cases hobj) hselP hmethM habM hkP hkPi (g := g) hg (argsL := As) (rest := rest) hlen hstack hdg
  exact ⟨vm₁, mk, X₁, X₁.named hnamed, fun tg h => hstep₁ _ fun acts => h acts⟩
theorem aI_P (X : Stand p l e R s m args below meth c T locs cells slots) (hexec : p.tables.exec = Jvm.exec) (K : aKV D s) (M : aMOK mm) (hp : (parseMethodDescriptor (mName mm).desc).map (fun d => d.parameters.length) = some n) (hown : s.vm.findClass own = some m.cls)
    (hlink : (Cond.methodLink own index (mName mm)).before args s = true) (hsame : (Cond.sameMethod (mName mm).cls (mName mm).cls (mName mm).name (mName mm).desc).before args s = true) (hinst : (Cond.instanceMethod (mName mm)).before args s = true) (hni : (mName mm).name ≠ "<init>") (hsup : (Cond.superclass own (mName mm).cls).before args s = true)
    {cellB : Cell} {kB : Class} (hcell : T.heap[b]? = some cellB) (hobj : cellB.vm.isStatics = false) (hkB : s.vm.classes[cellB.cls]? = some kB) (hg : g.method = m) (hn : As.length = n) (hstack : g.stack = As.reverse ++ .ref b :: rest) (hdg : decode c.code g.pc = .ok (.invokespecial index, 3)) :
    aInv p l e R s m args below meth c T locs cells slots g rest (mName mm) (Value.ref b :: As).toArray := by
  obtain ⟨mk9, meth9, hnm9, hm9, hl9⟩ := a_sig M K hp
  obtain ⟨mk, methM, hnamed, hmethM, hstM, habM⟩ := Cond.instanceMethod_spec hinst
  cases hnm9.symm.trans hnamed
  cases hm9.symm.trans hmethM
  obtain ⟨cs, dk, kp, h1, h2, -, h3, -, -, h4⟩ := Cond.superclass_spec hown hsup
  have hr0 : mk9.cls = cs := Option.some.inj ((findClass_of_methodNamed hnamed).symm.trans h1)
  obtain ⟨vm₁, X₁, hstep₁⟩ := X.invokespecialUp hexec hown hlink hsame hnamed hmethM hstM habM hni h2 h4 h1 h3 (by rw [hr0]; simp [Vm.isSubclass, Vm.isSubclassAux]) (a := b) (cell := cellB) hcell
    (fun z h => by rw [h] at hobj; cases hobj) hkB (g := g) hg (argsL := As) (rest := rest) (by rw [hn, hl9]) hstack hdg
  exact ⟨vm₁, mk9, X₁, X₁.named hnamed, fun tg h => hstep₁ _ (h [])⟩
end INV
