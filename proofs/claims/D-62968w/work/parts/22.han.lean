/-! SOUNDNESS, 13: handlers -/
/-- what the search for a handler gives, and the tables that it leaves -/
def aFinds (e : Env) (u : State) (f : JFrame) (a : Addr) (h : Handler) (vm' : Vm) : Prop :=
  ∀ (Q : Handler → Jvm.Pre) (E : Jvm.CtlPost) (d : Bool) (acts : List Action), wp (findHandler f a) Q E e d acts u ↔ Q h d acts (u.setVm vm')
theorem ah_go {Q : Handler → Jvm.Pre} {E : Jvm.CtlPost} {e : Env} {d : Bool} {acts : List Action} {u : State} {f : JFrame} {a : Addr} {x : ExceptionTableEntry} {t : List ExceptionTableEntry} {c : ClassId} {cell : Cell} (hx : covers x f.pc = true) (h0 : x.catchType ≠ 0)
    (hl : u.vm.ClassLinks e.platform f.method.cls x.catchType c) (hcell : u.heap[a]? = some cell) (hobj : ∀ k, cell.vm ≠ .statics k) (hk : ∃ k, u.vm.classes[cell.cls]? = some k) (hc : ∃ k, u.vm.classes[c]? = some k) :
    wp (findHandler.go f a (x :: t)) Q E e d acts u ↔ if u.vm.assignable cell.cls c = true then Q (.found x.handlerPc) d acts (u.setVm (u.vm.noted f.method.cls x.catchType (.cls c))) else wp (findHandler.go f a t) Q E e d acts (u.setVm (u.vm.noted f.method.cls x.catchType (.cls c))) := by
  simp only [covers] at hx
  obtain ⟨ha, ht⟩ := (resolveClass_links e.toSetting hl).op (op := VmOp.resolveClass f.method.cls x.catchType) rfl
  have hal : u.vm.Alike (u.vm.noted f.method.cls x.catchType (.cls c)) := (Vm.Alike.refl u.vm).noted _ _ _
  obtain ⟨k1, hk1⟩ := hk
  obtain ⟨k2, hk2⟩ := hc
  obtain ⟨k1', hk1', -⟩ := hal.2.2 _ _ hk1
  obtain ⟨k2', hk2', -⟩ := hal.2.2 _ _ hk2
  have has : (u.vm.noted f.method.cls x.catchType (.cls c)).assignable cell.cls c = u.vm.assignable cell.cls c := hal.assignable _ _
  cases hfit : u.vm.assignable cell.cls c <;> rw [hfit] at has <;> simp [findHandler.go, hx, h0, ha, ht, hcell, hobj, hk1', hk2', has, VmOp.dirties, VmOp.acts]
theorem ah_step {e : Env} {u : State} {a : Addr} {f : JFrame} {r : List Frame} {pc : Nat} {vm' : Vm} (hfind : aFinds e u f a (.found pc) vm') :
    (stepThrowing e u a (.java f :: r)).Is ((u.setVm vm').setFrames (.java { f with pc := pc, stack := [.ref a] } :: r)) [] := by
  simp only [stepThrowing, searchFrame, vmDo]
  generalize hr : Sem.go _ e false [] u = res
  obtain ⟨as, rfl, ha⟩ := Sem.eq_ok_of hr (a := Handler.found pc) (s' := u.setVm vm') (acts' := []) (by simp [hfind _ _ _ _])
  exact ⟨rfl, ha⟩
theorem ah_caught {tb : Tables} {e : Env} {u target : State} {g : JFrame} {c : Code} {below : List Frame} {a : Addr} (h : At u g.method c below) {pc : Nat} {vm' : Vm}
    (hfind : aFinds e ((u.setTop g).pushFrame (.throwing a)) g a (.found pc) vm') (hrest : Steps tb e below ((u.setVm vm').setTop { g with pc := pc, stack := [.ref a] }) target) :
    Steps tb e below ((u.setTop g).pushFrame (.throwing a)) target := by
  obtain ⟨hgo, hw⟩ := h.throwing a
  refine Steps.head hgo hw ?_
  rw [stepThread_throwing (frames_entered h.top _), (ah_step (u := (u.setTop g).pushFrame (.throwing a)) hfind).1]
  obtain ⟨g₀, hg⟩ := Option.isSome_iff_exists.mp h.top
  obtain ⟨r, hr⟩ := State.topJava?_eq_some.mp hg
  have hr' : (u.setVm vm').frames = .java g₀ :: r := hr
  rw [State.setTop_of_frames _ hr'] at hrest
  have key : ∀ (F G : List Frame), ((u.setFrames F).setVm vm').setFrames G = (u.setVm vm').setFrames G := fun F G => by
    have h1 : (u.setFrames F).setVm vm' = (u.setVm vm').setFrames F := rfl
    rw [h1, State.setFrames_setFrames]
  rw [hr, List.tail_cons, State.pushFrame]
  rw [State.setTop_of_frames _ hr, State.setFrames_setFrames, key]
  exact hrest
section HAN
variable {p : Program} {l : Launch} {e : Env} {R : Room} {s : State} {m : MethodId} {args : Array Value} {below : List Frame} {meth : Method} {c : Code} {T : State} {locs : List Loc} {cells slots : Nat} {D : aD} {mm : aMi}
theorem ah_search (K : aKV D s) (hown : s.vm.findClass (aOwn (mOwn mm)) = some m.cls) (hpl : e.platform.magicAccessors = ({} : Platform).magicAccessors) {f : JFrame} (hf : f.method = m) {a t pc : Nat} (ht : aExT t = true) {cell : Cell} (hcls : cell.cls = dC D t) (hobj : cell.vm.isStatics = false) :
    ∀ (tb : List ExceptionTableEntry) (hs : List (Nat × Nat × Nat × Nat × Nat)), tb.map (fun h => (h.startPc, h.endPc, h.handlerPc, h.catchType)) = hs.map (fun h => (h.1, h.2.1, h.2.2.1, h.2.2.2.2)) → (∀ h ∈ hs, aHanOK mm h ∧ aExT h.2.2.2.1 = true ∧ h.2.2.2.2 ≠ 0) → aHanL f.pc t hs = some pc →
      ∀ u : State, s.WarmedH u.vm → u.heap[a]? = some cell → ∃ vm', s.WarmedH vm' ∧ ∀ (Q : Handler → Jvm.Pre) (E : Jvm.CtlPost) (d : Bool) (acts : List Action), wp (findHandler.go f a tb) Q E e d acts u ↔ Q (.found pc) d acts (u.setVm vm') := by
  intro tb
  induction tb with
  | nil =>
    intro hs hm _ hh
    have : hs = [] := List.map_eq_nil_iff.mp hm.symm
    subst this
    cases hh
  | cons x tb ih =>
    intro hs hm hok hh u hW hcell
    match hs, hm, hok, hh with
    | [], hm, _, _ => cases hm
    | h :: hs, hm, hok, hh =>
      simp only [List.map_cons, List.cons.injEq, Prod.mk.injEq] at hm
      obtain ⟨⟨e1, e2, e3, e4⟩, hm⟩ := hm
      obtain ⟨⟨q, hq, h13, hlk⟩, hex, hnz⟩ := hok h List.mem_cons_self
      have hcv : covers x f.pc = (Nat.ble h.1 f.pc && Nat.blt f.pc h.2.1) := by
        unfold covers
        rw [e1, e2]
        congr 1
        · rw [Bool.eq_iff_iff, decide_eq_true_iff, Nat.ble_eq]
        · rw [Bool.eq_iff_iff, decide_eq_true_iff]
          exact ⟨fun h => Nat.ble_eq.mpr h, fun h => Nat.ble_eq.mp h⟩
      unfold aHanL at hh
      cases hc : covers x f.pc with
      | false =>
        rw [← hcv, hc, Bool.false_and, if_neg (by decide)] at hh
        obtain ⟨vm', w1, w2⟩ := ih hs hm (fun h' hh' => hok h' (List.mem_cons_of_mem _ hh')) hh u hW hcell
        exact ⟨vm', w1, fun Q E d acts => by rw [W.findHandler_go_skip hc]; exact w2 Q E d acts⟩
      | true =>
        rw [← hcv, hc, Bool.true_and] at hh
        have hl0 := K.word hlk #[]
        rw [← e4] at hl0
        obtain ⟨c', hc', hcl⟩ := Cond.classLink_spec (show s.vm.findClass (aOwn (mOwn mm)) = some f.method.cls by rw [hf]; exact hown) hl0 e.platform hpl
        have hfc := (aKn K hq).2.1
        cases hfc.symm.trans hc'
        obtain ⟨dk, _, _, kt, hd, _, _, _, _, hkt, _, hopen⟩ := hcl.here
        have hcl₀ := hW.classLinks hcl
        have hW' : s.WarmedH (u.vm.noted f.method.cls x.catchType (.cls (dC D h.2.2.2.1))) := hW.noted hd hopen (State.rightAt_cls hcl)
        obtain ⟨kt', hkt', -⟩ := hW.alike.2.2 _ _ hkt
        have hex' : ∃ q : vw_C, aCl[t]? = some q := by
          have : ∀ t, t < 18 → aExT t = true → ∃ q : vw_C, aCl[t]? = some q := fun t ht _ => ⟨aCl[t]'(by simpa [aCl] using ht), List.getElem?_eq_getElem (by simpa [aCl] using ht)⟩
          have ht2 := ht
          unfold aExT at ht2
          simp only [Bool.and_eq_true] at ht2
          exact this t (Nat.le_of_ble_eq_true ht2.2) ht
        obtain ⟨q9, hq9⟩ := hex'
        obtain ⟨k9, hk9, -⟩ := (aKn K hq9).2.2
        obtain ⟨k9', hk9', -⟩ := hW.alike.2.2 _ _ hk9
        have hgo := fun Q E d acts => ah_go (Q := Q) (E := E) (e := e) (d := d) (acts := acts) (u := u) (f := f) (a := a) (t := tb) hc (by rw [e4]; exact hnz) hcl₀ hcell (VmData.ne_statics_of hobj) ⟨k9', by rw [hcls]; exact hk9'⟩ ⟨kt', hkt'⟩
        by_cases htt : Nat.beq h.2.2.2.1 t = true
        · rw [if_pos htt] at hh
          have htq : h.2.2.2.1 = t := Nat.eq_of_beq_eq_true htt
          refine ⟨_, hW', fun Q E d acts => ?_⟩
          rw [hgo Q E d acts, if_pos (by rw [hcls, htq]; exact Vm.assignable_self _ _), e3, Option.some.inj hh]
        · rw [if_neg htt] at hh
          have htq : t ≠ h.2.2.2.1 := fun e => htt (by rw [e]; exact Nat.beq_refl _)
          obtain ⟨vm', w1, w2⟩ := ih hs hm (fun h' hh' => hok h' (List.mem_cons_of_mem _ hh')) hh (u.setVm (u.vm.noted f.method.cls x.catchType (.cls (dC D h.2.2.2.1)))) hW' hcell
          refine ⟨vm', w1, fun Q E d acts => ?_⟩
          rw [hgo Q E d acts, if_neg (by
            rw [hcls, hW.alike.assignable, K.kw.2.2.2.2.1 _ _ ht hex htq]
            decide)]
          exact w2 Q E d acts
/-- into a handler of the method's own -/
theorem a_catch (X : Stand p l e R s m args below meth c T locs cells slots) (C : aCx p s m meth c D mm) (hT : aTbl c mm) (hok : ∀ h ∈ mHan mm, aHanOK mm h ∧ aExT h.2.2.2.1 = true ∧ h.2.2.2.2 ≠ 0) {g : JFrame} (hg : g.method = m) {a t pc : Nat} (ht : aExT t = true) {cell : Cell} (hcell : T.heap[a]? = some cell) (hcls : cell.cls = dC D t) (hobj : cell.vm.isStatics = false) (hh : aHan mm g.pc t = some pc) :
    ∃ vm', Stand p l e R s m args below meth c (T.setVm vm') locs cells slots ∧ ∀ tg, Steps p.tables e below ((T.setVm vm').setTop { g with pc := pc, stack := [.ref a] }) tg → Steps p.tables e below ((T.setTop g).pushFrame (.throwing a)) tg := by
  have hpl : e.platform.magicAccessors = ({} : Platform).magicAccessors := by rw [X.admits.platform]
  obtain ⟨vm', w1, w2⟩ := ah_search (e := e) C.2.2.2.2.2.2.1 C.2.2.2.2.2.1 hpl hg ht hcls hobj c.exceptionTable.toList (mHan mm) hT hok hh ((T.setTop g).pushFrame (.throwing a)) X.warmed hcell
  refine ⟨vm', X.noted w1, fun tg htg => ah_caught (c := c) (by rw [hg]; exact X.here) (vm' := vm') (pc := pc) (fun Q E d acts => ?_) htg⟩
  rw [W.findHandler_eq (s := (T.setTop g).pushFrame (.throwing a)) (meth := meth) (code := c) (by rw [hg]; exact X.method') X.code]
  exact w2 Q E d acts
/-- no handler covers pc -/
theorem aNoH_out (hT : aTbl c mm) {pc : Nat} (h : aNoH mm pc = true) : ∀ x ∈ c.exceptionTable.toList, covers x pc = false := by
  intro x hx
  have hm : (x.startPc, x.endPc, x.handlerPc, x.catchType) ∈ (mHan mm).map (fun h => (h.1, h.2.1, h.2.2.1, h.2.2.2.2)) := by
    rw [← hT]
    exact List.mem_map.mpr ⟨x, hx, rfl⟩
  obtain ⟨h0, hh0, he⟩ := List.mem_map.mp hm
  simp only [Prod.mk.injEq] at he
  have h1 := List.all_eq_true.mp h h0 hh0
  simp only [Bool.not_eq_true', Bool.and_eq_false_iff] at h1
  unfold covers
  rw [← he.1, ← he.2.1]
  rcases h1 with h1 | h1
  · have : ¬ h0.1 ≤ pc := fun hc => by rw [Nat.ble_eq.mpr hc] at h1; cases h1
    simp [this]
  · have : ¬ pc < h0.2.1 := fun hc => by
      have : Nat.blt pc h0.2.1 = true := Nat.ble_eq.mpr hc
      rw [this] at h1
      cases h1
    simp [this]
end HAN
