/-! SOUNDNESS, 12: throwing, catching -/
theorem aKV.kw {D : aD} {s : State} (K : aKV D s) : aKW D s := K.2.2.2.2.2.2.2.2.2.2.2
/-- decoding, by the table -/
theorem a_dec {mm : aMi} (hc : aChk mm = true) {pc : Nat} {i : Instr} (h : aAt mm pc = some i) : ∃ n, decode (mBytes mm) pc = .ok (i, n) ∧ (aSw i = false → n = aLen i) := by
  unfold aAt at h
  split at h
  · rename_i q hq
    have hm := a_lookup hq
    unfold aChk at hc
    have h2 := of_decide_eq_true (List.all_eq_true.mp hc _ hm)
    cases h
    refine ⟨_, h2, fun hs => ?_⟩
    show (if aSw q.1 = true then q.2 else aLen q.1) = aLen q.1
    rw [if_neg (by rw [hs]; decide)]
  · cases h
theorem a_dec' {mm : aMi} (hc : aChk mm = true) {pc : Nat} {i : Instr} (h : aAt mm pc = some i) (hs : aSw i = false) : decode (mBytes mm) pc = .ok (i, aLen i) := by
  obtain ⟨n, h1, h2⟩ := a_dec hc h
  rw [h1, h2 hs]
section EXC
variable {p : Program} {l : Launch} {e : Env} {R : Room} {s : State} {m : MethodId} {args : Array Value} {below : List Frame} {meth : Method} {c : Code} {T : State} {locs : List Loc} {cells slots : Nat} {D : aD}
theorem aOkW.at {a : Cond} (h : aOkW a) (K : aKV D s) (args : Array Value) : a.before args s = true := by
  obtain ⟨-, w2, w3, w4, -⟩ := K.kw
  rcases h with h | ⟨x, rfl, h⟩ | ⟨C, T, rfl, h⟩ | ⟨q, hq, rfl⟩ | ⟨q, hq, rfl⟩
  · exact K.word h args
  · exact va_Nw.use rfl (w3 x h)
  · exact va_Nw.use rfl (w4 C T h)
  · obtain ⟨c, k, i, f, a, cell, hc, hi, hst, ha, hcell, hs, hcls, hlt, hty⟩ := Cond.laysStatic_spec (w2 q hq).1
    exact Cond.laysStatic_of hc hi hst ha hcell hs hcls hlt hty
  · rcases (w2 q hq).2 with ⟨cf, kf, fi, f9, a9, cell9, z1, z2, z3, z4, z5, z6, z7, z8⟩ | ⟨t, cf, kf, fi, f9, a9, cell9, z1, z2, z3, z4, z5, z6, z7, z8⟩
    · simp [Cond.before, Cond.holds, Cond.value, Term.eval, State.fieldNamed?, z1, z2, z4, z5, z6, z7]
    · simp [Cond.before, Cond.holds, Cond.value, Term.eval, State.fieldNamed?, z1, z2, z4, z5, z6, z7]
theorem aXA {t own ic : Nat} (h : aExcOK own ic t) : aExT t = true ∧ (∃ q : vw_C, aCl[t]? = some q ∧ q.1 = aXN t) ∧ ∀ a ∈ Bundle.ownAtoms0 (aOwn own) ic (aXN t) aXC, aOkW a := by
  obtain ⟨q, hq, h13, hl⟩ := h
  match t, hq, h13, hl with
  | 13, hq, _, hl => cases hq; exact ⟨rfl, ⟨_, rfl, rfl⟩, aXA_13 hl⟩
  | 14, hq, _, hl => cases hq; exact ⟨rfl, ⟨_, rfl, rfl⟩, aXA_14 hl⟩
  | 15, hq, _, hl => cases hq; exact ⟨rfl, ⟨_, rfl, rfl⟩, aXA_15 hl⟩
  | 16, hq, _, hl => cases hq; exact ⟨rfl, ⟨_, rfl, rfl⟩, aXA_16 hl⟩
  | 17, hq, _, hl => cases hq; exact ⟨rfl, ⟨_, rfl, rfl⟩, aXA_17 hl⟩
  | t + 18, hq, _, _ => simp [aCl] at hq
  | 0, _, h13, _ => omega
  | 1, _, h13, _ => omega
  | 2, _, h13, _ => omega
  | 3, _, h13, _ => omega
  | 4, _, h13, _ => omega
  | 5, _, h13, _ => omega
  | 6, _, h13, _ => omega
  | 7, _, h13, _ => omega
  | 8, _, h13, _ => omega
  | 9, _, h13, _ => omega
  | 10, _, h13, _ => omega
  | 11, _, h13, _ => omega
  | 12, _, h13, _ => omega
theorem aXfit {t : Nat} (h : aExT t = true) : Bundle.fit (aXN t) = true := by
  have : ∀ t, t < 18 → aExT t = true → Bundle.fit (aXN t) = true := by decide +kernel
  refine this t ?_ h
  unfold aExT at h
  simp only [Bool.and_eq_true] at h
  exact Nat.le_of_ble_eq_true h.2
set_option maxHeartbeats 4000000 in
/-- an exception's constructor, on a fresh cell -/
theorem a_ctor (X : Stand p l e R s m args below meth c T locs cells slots) (hexec : p.tables.exec = Jvm.exec) (htr : e.platform.stackTraces = false) {own cls : String} {ic : Nat}
    (hown : s.vm.findClass own = some m.cls) (hcls : Bundle.fit cls = true) (K : aKV D s)
    (h : ∀ a ∈ Bundle.ownAtoms0 own ic cls aXC, a.before args s = true) (hS : va_S (aA D) s.heap T.heap locs)
    {a : Addr} {cX : ClassId} {kX : Class} (hfoundX : s.vm.findClass cls = some cX) (hkX : s.vm.classes[cX]? = some kX) (hcell : T.heap[a]? = some (freshCell cX kX)) (haA : aA D a)
    {g : JFrame} (hg : g.method = m) (hsize : g.locals.size = c.maxLocals) {rest : List Value} (hstack : g.stack = .ref a :: rest) (hmr : g.monitorRoom = 0) (hrest : rest.length ≤ 13)
    (hd6 : decode c.code g.pc = .ok (.invokespecial ic, 3)) (hRframes : 8 ≤ R.frames) (hRlocals : 200 ≤ R.locals) :
    ∃ (vm' : Vm) (ce : Cell) (L : List Loc), Stand p l e R s m args below meth c ((T.setVm vm').setCell a ce) (locs ++ L) cells slots ∧ (∀ q ∈ L, q.base = a) ∧ ce.cls = cX ∧ ce.vm = .none ∧ ce.monitor = {} ∧
      ∀ tg, Steps p.tables e below (((T.setVm vm').setCell a ce).setTop { g with pc := g.pc + 3, stack := rest }) tg → Steps p.tables e below (T.setTop g) tg := by
  have howns : e.platform.frameOwnsMonitors = true := by rw [X.admits.platform]
  have hfin : e.platform.finalization = false := by rw [X.admits.platform]
  have hpl : e.platform.magicAccessors = ({} : Platform).magicAccessors := by rw [X.admits.platform]
  have a' : ∀ x, x ∈ Bundle.ownAtoms0 own ic cls aXC → x.holds args s none s [] = true := fun x hx => h x hx
  obtain ⟨T9, Z, L, LZ, Y⟩ := ThrowableC.of_atoms (args := args) howns hfin hpl (fun x hx => h x (by simp [Bundle.ownAtoms0, hx]))
  obtain ⟨P1, Ps, hlen, L1, hL, hP1m, hlink1, hlink⟩ := Bundle.chain0 (args := args) hpl Y.init0 aXC cls hcls (by decide +kernel) (fun x hx => h x (by simp [Bundle.ownAtoms0, hx]))
  have hfound : s.vm.findClass cls = some P1.m.cls := findClass_of_methodNamed hP1m
  cases Option.some.inj (hfoundX.symm.trans hfound)
  obtain ⟨c1, kX', hc1, hk, hord, -, -, hn6⟩ := Cond.instantiable_spec (a' (.instantiable cls 6) (by simp [Bundle.ownAtoms0]))
  cases Option.some.inj (hc1.symm.trans hfound)
  cases Option.some.inj (hkX.symm.trans hk)
  have hsel0 : selectMethod e.platform s.vm P1.m.cls T9.fill0 = .method T9.fill0 := by
    obtain ⟨c2, r2, m2, q1, q2, q3, q4, -⟩ := Cond.selects_spec (a' (.selects cls Bundle.tFill0 Bundle.tFill0) (by simp [Bundle.ownAtoms0]))
    cases Option.some.inj (q1.symm.trans hfound)
    cases Option.some.inj (q2.symm.trans (State.methodFound?_of_named Y.fill0 (by decide)))
    cases Option.some.inj (q3.symm.trans Y.fill0)
    rw [Launch.admits_selectMethod X.admits]; exact q4
  have hselF : selectMethod e.platform s.vm P1.m.cls T9.fill = .method T9.fill := by
    obtain ⟨c2, r2, m2, q1, q2, q3, q4, -⟩ := Cond.selects_spec (a' (.selects cls Bundle.tFill Bundle.tFill) (by simp [Bundle.ownAtoms0]))
    cases Option.some.inj (q1.symm.trans hfound)
    cases Option.some.inj (q2.symm.trans (State.methodFound?_of_named Y.fill (by decide)))
    cases Option.some.inj (q3.symm.trans Y.fill)
    rw [Launch.admits_selectMethod X.admits]; exact q4
  obtain ⟨cellS0, hcS0, hiss⟩ := Y.statics
  obtain ⟨u0, hu0⟩ := Cond.staticRefV Y.unassigned L.unassignedStatic L.statics hcS0 hiss (a' (.isRef (.static Bundle.tN "UNASSIGNED_STACK" Bundle.steD)) (by simp [Bundle.ownAtoms0]))
  obtain ⟨sen, hsen⟩ := Cond.staticRefV Y.sentinel L.sentinelStatic L.statics hcS0 hiss (a' (.isRef (.static Bundle.tN "SUPPRESSED_SENTINEL" Bundle.listD)) (by simp [Bundle.ownAtoms0]))
  obtain ⟨ci198, i198, fB, hk198, hg198, ha198, hsB, -, hnB, htB, hffB⟩ := Cond.ownField (t := .object "java/lang/Object") Y.found L.cls (by decide +kernel) (a' (.fieldLink Bundle.tN 198 Bundle.tN "backtrace" "Ljava/lang/Object;") (by simp [Bundle.ownAtoms0])) (a' (.lays Bundle.tN Bundle.tN "backtrace" "Ljava/lang/Object;") (by simp [Bundle.ownAtoms0])) e.platform hpl
  have hnA : ¬ aA D T9.aS := by
    have hz := (K.kw.2.1 _ (List.mem_of_getElem? (i := 0) rfl)).2
    rcases hz with ⟨cf, kf, fi, f9, a9, cell9, z1, z2, z3, z4, z5, z6, z7, z8⟩ | ⟨t, cf, kf, fi, f9, a9, cell9, z1, z2, z3, z4, z5, z6, z7, z8⟩
    · cases Y.unassigned.symm.trans z1
      cases L.statics.symm.trans z4
      exact z8
    · cases Y.unassigned.symm.trans z1
      cases L.statics.symm.trans z4
      exact z8
  have hcellS : T.heap[T9.aS]? = some cellS0 := by rw [hS.2.1 _ (Array.getElem?_eq_some_iff.mp hcS0).1 hnA]; exact hcS0
  have hknownS : cellS0.vm ≠ .unknown := by
    intro hu
    rw [hu] at hiss
    cases hiss
  have hneS : T9.aS ≠ a := fun h => hnA (by rw [h]; exact haA)
  obtain ⟨iM, hffM⟩ := Y.msg
  obtain ⟨tyC, dC, hdC, hdnC⟩ := Cond.laysAt hfound hk Y.cause (a' (.lays cls Bundle.tN "cause" "Ljava/lang/Throwable;") (by simp [Bundle.ownAtoms0]))
  obtain ⟨tyS, dS, hdS, hdnS⟩ := Cond.laysAt hfound hk Y.stack (a' (.lays cls Bundle.tN "stackTrace" Bundle.steD) (by simp [Bundle.ownAtoms0]))
  obtain ⟨tyP, dP, hdP, hdnP⟩ := Cond.laysAt hfound hk Y.supp (a' (.lays cls Bundle.tN "suppressedExceptions" Bundle.listD) (by simp [Bundle.ownAtoms0]))
  obtain ⟨tyB, dB, hdB, hdnB⟩ := Cond.laysAt hfound hk hffB (a' (.lays cls Bundle.tN "backtrace" "Ljava/lang/Object;") (by simp [Bundle.ownAtoms0]))
  have bC := Cond.laysApart hdB hdC hdnB hdnC (by rw [hnB, Y.causeName]; decide)
  have bS := Cond.laysApart hdB hdS hdnB hdnS (by rw [hnB, Y.stackName]; decide)
  have bP := Cond.laysApart hdB hdP hdnB hdnP (by rw [hnB, Y.suppName]; decide)
  have hskip : SkipFacts T9 e.platform s (fun u => u) u0 ((preparedCellV T9.toThrowableT (freshCell P1.m.cls kX) a u0 sen).withEntry T.cur) :=
    ⟨{ ci198 := ci198, i198 := i198, fBack := fB }, ⟨hk198, hg198, ha198, hsB⟩, by
      have := fresh_default (c := P1.m.cls) tyB
      rw [htB] at this
      simpa [preparedCellV, Cell.setSlot, Cell.withEntry, Array.getElem?_setIfInBounds, bC, bS, bP, bC.symm, bS.symm, bP.symm, defaultValue] using this, fun _ _ => rfl⟩
  obtain ⟨tm, methC, cdC, kC, vm₁, hnC, -, -, -, -, -, -, -, hW₁, st1⟩ := Steps.initCold (tb := p.tables) (e := e) (below := below) (s := s) (U := T) X.here hexec X.warmed hpl hown (t := Bundle.init0 cls) rfl rfl (Bundle.fit_spec hcls).2
    (a' (.methodLink own ic (Bundle.init0 cls)) (by simp [Bundle.ownAtoms0])) (h (.instanceMethod (Bundle.init0 cls)) (by simp [Bundle.ownAtoms0, Bundle.chain0Atoms, Bundle.passAtoms])) (bytes := Bundle.five) (maxL := 1) (h (.code (Bundle.init0 cls) Bundle.five 1 none) (by simp [Bundle.ownAtoms0, Bundle.chain0Atoms, Bundle.passAtoms]))
    (f := g) hg (a := a) (rest := rest) hstack hd6
  cases Option.some.inj (hnC.symm.trans hP1m)
  have X₁ := X.noted hW₁
  have hsum : (rest.map fun v => v.category).sum ≤ 26 := by
    have h2 : ∀ l : List Value, (l.map fun v => v.category).sum ≤ 2 * l.length := by
      intro l
      induction l with
      | nil => simp
      | cons v l ih =>
        have : v.category ≤ 2 := by rcases lv_cat v with h | h <;> omega
        simp only [List.map_cons, List.sum_cons, List.length_cons]
        omega
    have := h2 rest
    omega
  obtain ⟨vm₂, X₂, st2⟩ := X₁.ctorPlainOffV hexec (g := { g with stack := rest }) hg hsize T9 L Z LZ (P1 :: Ps)
    (fun P hP => by rcases List.mem_cons.mp hP with rfl | hP; exact L1; exact hL P hP) ⟨hlink1, hlink⟩ (u0 := u0) (sen := sen) (self := a) (cell := freshCell P1.m.cls kX) (cellS := cellS0)
    hcell (fun _ => by simp) (by simp) rfl rfl hsel0 hselF hcellS hneS hknownS hu0 hsen
    (Takes.of_laid hk hord tyC (by rw [Y.causeType]; rfl)) (Takes.of_laid hk hord tyS (by rw [Y.stackType]; exact fits_refV_array _ u0)) (Takes.of_laid hk hord tyP (by rw [Y.suppType]; exact fits_refV_object _ sen)) Y.objLocals hskip htr [] hd6
    (by simp only [List.length_cons, hlen]; show 2 + 1 + 2 < R.frames; omega) (by
      simp only [List.length_cons, hlen]
      show 2 * ({ g with stack := rest } : JFrame).monitorRoom + (rest.map fun v => v.category).sum + (13 * (2 + 1) + 41) ≤ R.locals
      rw [show ({ g with stack := rest } : JFrame).monitorRoom = 0 from hmr]
      omega)
  refine ⟨vm₂, _, _, X₂, ?_, ?_, ?_, ?_, fun tg htg => st1 tg fun acts => ?_⟩
  · intro q hq
    simp only [List.mem_cons, List.not_mem_nil, or_false] at hq
    rcases hq with rfl | rfl | rfl | rfl <;> rfl
  · rfl
  · rfl
  · rfl
  · have := st2 tg htg
    rw [show P1.m = firstOf (Z.m T9.toThrowableT) ((P1 :: Ps).map (·.toPassT)) from rfl]
    rw [doInvoke_state]
    exact this
end EXC
