/-! SOUNDNESS, 14: the JDK's members that are taken as one step -/
set_option maxRecDepth 100000
theorem a_toInt (z : Int32) (hz : ¬ z < 0) : z.toInt = (z.toNatClampNeg : Int) := by
  have hz0 : (0 : Int) ≤ z.toInt := by
    have := Int32.not_lt.mp hz
    simpa using Int32.le_iff_toInt_le.mp this
  show z.toInt = ((z.toInt.toNat : Nat) : Int)
  omega
/-- an array's cell is written anew -/
theorem aRep.row {D : aD} {z z' : aSt} {H H' : Heap} {a t n : Nat} {cell : Cell} (hR : aRep D z H) (ha : 100 ≤ a) (hT : gT z a = (t, n)) (h40 : 40 ≤ t) (h1 : H'[aMu D a]? = some cell) (hok : aOkC D t n a cell) (hv : ∀ k, k < n → cell.slots[k]? = some (aRh D (aVal z' t a k)))
    (h2 : H'.size = H.size) (h3 : ∀ q, q ≠ aMu D a → H'[q]? = H[q]?) (e1 : gT z' = gT z) (e2 : gZ z' = gZ z) (e4 : ∀ t b j, b ≠ a → aVal z' t b j = aVal z t b j) : aRep D z' H' := by
  obtain ⟨r1, r2, r3⟩ := hR
  refine ⟨by rw [h2, r1, e2], by rw [e1]; exact r2, fun b t' n' hb ht' => ?_⟩
  rw [e1] at hb
  rw [e2]
  obtain ⟨q1, cb, q2, q3, q4⟩ := r3 b t' n' hb ht'
  refine ⟨q1, ?_⟩
  by_cases hba : b = a
  · subst hba
    rw [hT] at hb
    cases hb
    refine ⟨cell, h1, hok, fun k hk => ?_⟩
    rw [show aNp t n = n from if_neg (by omega)] at hk
    rw [show aSl D t k = k from if_neg (by omega)]
    exact hv k hk
  · refine ⟨cb, ?_, q3, fun j hj => ?_⟩
    · rw [h3 _ (aMu_ne (fun hb9 => r2 b hb9 (by rw [hb]; exact ht')) ha hba)]
      exact q2
    · rw [q4 j hj, e4 _ _ _ hba]
/-- an array's places behind a run of stores -/
theorem a_storeRun (at_ : Nat) : ∀ (xs : List (Value × Nat)) (c c' : Cell), c'.slots = c.slots → (c'.storePairs at_ xs).slots = (c.storePairs at_ xs).slots := by
  intro xs
  induction xs with
  | nil => intro c c' h; exact h
  | cons x xs ih =>
    intro c c' h
    refine ih (c.setSlot _ _) (c'.setSlot _ _) ?_
    show c'.slots.setIfInBounds _ _ = c.slots.setIfInBounds _ _
    rw [h]
theorem a_copied {cs cd : Cell} {n0 n1 sp dp n : Nat} {F G : Nat → Value} (hF : ∀ k, k < n0 → cs.slots[k]? = some (F k)) (hG : ∀ k, k < n1 → cd.slots[k]? = some (G k)) (hn : cd.slots.size = n1) (hs : sp + n ≤ n0) :
    (cd.storeRun dp (cs.stretch sp n)).cls = cd.cls ∧ (cd.storeRun dp (cs.stretch sp n)).vm = cd.vm ∧ (cd.storeRun dp (cs.stretch sp n)).monitor = cd.monitor ∧ (cd.storeRun dp (cs.stretch sp n)).slots.size = n1 ∧ ∀ k, k < n1 → (cd.storeRun dp (cs.stretch sp n)).slots[k]? = some (va_cpy F G sp dp n k) := by
  have e : cs.stretch sp n = (arrV cd.cls n0 F).stretch sp n := by
    unfold Cell.stretch
    apply List.map_congr_left
    intro i hi
    have hi' := List.mem_range.mp hi
    rw [Array.getD_eq_getD_getElem?, Array.getD_eq_getD_getElem?, hF _ (by omega), arrV_read _ _ (by omega)]
  have hsl : cd.slots = (arrV cd.cls n1 G).slots := by
    apply Array.ext_getElem?
    intro i
    by_cases hi : i < n1
    · rw [hG i hi, arrV_read _ _ hi]
    · rw [Array.getElem?_eq_none (by omega), Array.getElem?_eq_none (by rw [arrV_size]; omega)]
  have hr : (cd.storeRun dp (cs.stretch sp n)).slots = (arrV cd.cls n1 (va_cpy F G sp dp n)).slots := by
    rw [e, ← va_copied (fun v => v) cd.cls cd.cls F G hs]
    unfold Cell.storeRun
    exact a_storeRun _ _ (arrV cd.cls n1 G) cd hsl
  have h0 : ∀ xs, (cd.storeRun dp xs).cls = cd.cls ∧ (cd.storeRun dp xs).vm = cd.vm ∧ (cd.storeRun dp xs).monitor = cd.monitor := fun xs => by
    unfold Cell.storeRun
    have := Cell.storePairs_facts cd dp xs.zipIdx
    exact ⟨this.1, this.2.1, this.2.2.2.2⟩
  refine ⟨(h0 _).1, (h0 _).2.1, (h0 _).2.2, by rw [hr, arrV_size], fun k hk => by rw [hr, arrV_read _ _ hk]⟩
section NAT
variable {p : Program} {l : Launch} {e : Env} {R : Room} {s : State} {m : MethodId} {args : Array Value} {below : List Frame} {meth : Method} {c : Code} {D : aD} {mm : aMi} {z0 zE : aSt} {Q : State → Prop}
variable {pc pc' : Nat} {L : List (Option Value)} {S S' : List Value} {z : aSt} {cf : aCf}
theorem a_obj_inv {own idx : Nat} (h : a_obj own idx pc' L S z = some cf) : ∃ a S', S = .ref a :: S' ∧ aObj own idx = some () ∧ S'.length ≤ 12 ∧ cf = (pc', L, S', z) := by
  unfold a_obj at h
  split at h
  · split at h
    · rename_i hc
      exact ⟨_, _, rfl, hc.1, hc.2, (Option.some.inj h).symm⟩
    · cases h
  · cases h
theorem a_ord_inv (h : a_ord pc' L S z = some cf) : ∃ a S', S = .ref a :: S' ∧ a < 13 ∧ S'.length ≤ 4 ∧ cf = (pc', L, .int (nI a) :: S', z) := by
  unfold a_ord at h
  split at h
  · split at h
    · rename_i hc
      exact ⟨_, _, rfl, hc.1, hc.2, (Option.some.inj h).symm⟩
    · cases h
  · cases h
theorem sx_obj {idx : Nat} (C : aCx p s m meth c D mm) (hf : 8 ≤ R.frames) (hlo : 200 ≤ R.locals) (hi : decode (mBytes mm) pc = .ok (.invokespecial idx, 3)) (h : aStep (mOwn mm) (mIni mm) (.invokespecial idx) pc L S z = some cf) (k : aWW p l e R s m args below meth c D mm z0 zE Q cf.1 cf.2.1 cf.2.2.1 cf.2.2.2) : aWW p l e R s m args below meth c D mm z0 zE Q pc L S z := by
  have K := C.2.2.2.2.2.2.1
  obtain ⟨a, S9, rfl, hc1, hc2, rfl⟩ := a_obj_inv (show a_obj (mOwn mm) idx (pc + 3) L S z = some cf from h)
  refine ⟨k.1, k.2.1, fun H ls locs hR hL hl hS h1 h2 => ?_⟩
  have hcat := aRh_cats D S9
  exact W.objInit C.1 C.2.1 C.2.2.2.2.2.1 (K.word (aObj_ok hc1) args) (K.word q107 args) (K.word q108 args) rfl (by rw [C.2.2.1, ← hl]; exact hL.1) rfl hi (by omega) (by show 2 * 0 + _ + 12 ≤ R.locals; omega) (k.2.2 H ls locs hR hL hl hS h1 h2)
theorem sx_mth {f : Int32 → Int32 → Int32} (C : aCx p s m meth c D mm) (h : a_mth f pc' L S z = some cf) (step : ∀ (x y : Int32) (S9 : List Value) (H : Heap) (ls : Array Slot) (locs : List Loc) (cells slots : Nat), S9.length ≤ 12 → cells ≤ R.cells → slots ≤ R.slots → c.maxLocals = ls.size → W p l e R s m args below meth c H locs cells slots Q (F0 m pc' ls (.int (f x y) :: S9.map (aRh D))) → W p l e R s m args below meth c H locs cells slots Q (F0 m pc ls (.int y :: .int x :: S9.map (aRh D))))
    (hcel : gZ zE - gZ z0 ≤ R.cells) (hslo : gS zE - gS z0 ≤ R.slots) (k : aWW p l e R s m args below meth c D mm z0 zE Q cf.1 cf.2.1 cf.2.2.1 cf.2.2.2) : aWW p l e R s m args below meth c D mm z0 zE Q pc L S z := by
  unfold a_mth at h
  split at h
  · rename_i y x S9
    split at h
    · rename_i hc
      obtain rfl := Option.some.inj h
      refine ⟨k.1, k.2.1, fun H ls locs hR hL hl hS h1 h2 => ?_⟩
      have k1 := k.1
      have k2 := k.2.1
      exact step x y S9 H ls locs _ _ hc (Nat.le_trans (Nat.sub_le_sub_right k1 _) hcel) (Nat.le_trans (Nat.sub_le_sub_right k2 _) hslo) (by rw [C.2.2.1, ← hl]; exact hL.1.symm) (k.2.2 H ls locs hR hL hl hS h1 h2)
    · cases h
  · cases h
/-- Enum.ordinal() -/
theorem a_ordM (l : Launch) (D : aD) (i : Nat) : Met l yJ12_ordinal (ws_ yJ12_ordinal cJ12_ordinal 1 (some .int)) { frames := 0, cells := 0, slots := 0, locals := 0 } (fun v U => v = #[.ref (dK D i)] ∧ va_OF "java/lang/Enum" "ordinal" "I" (.int (nI i)) (dK D i) (aA D) U U.heap) (QcRead (nI i)) 0 0 (fun _ => False) := by
  refine Met.ofW (cc := cJ12_ordinal) (maxL := 1) (ret := some .int) (by decide +kernel) rfl ?_
  intro p e s m args below meth c s₁ B hml hv
  obtain ⟨rfl, cf, k, fi, f, cell, z1, z2, z3, z4, z5, z6⟩ := hv
  have hts := atoms_spec (ws := ws_ yJ12_ordinal cJ12_ordinal 1 (some .int)) B.pre
  have hts : ∀ w ∈ lw_all, w.before _ s = true := fun w h => hts w (List.mem_cons_of_mem _ h)
  have hown : s.vm.findClass RJ12 = some m.cls := findClass_of_methodNamed B.named
  have hl := lv_entry ([.ref (dK D i)]) (n := 1) (Nat.le_of_ble_eq_true rfl)
  have hlocks := B.notSynchronized
  rw [show (#[Value.ref (dK D i)] : Array Value) = ([Value.ref (dK D i)] : List Value).toArray from rfl, lg_entry_eq]
  generalize (lg_sl ([.ref (dK D i)]) ++ List.replicate (1 - (lg_sl ([.ref (dK D i)])).length) Slot.unset).toArray = ls at hl ⊢
  have hl : lv_has ls 1 [(0, .ref (dK D i))] := hl
  refine lv_aload_n (k := 0) B.exec B.bytes (show decode cJ12_ordinal 0 = .ok (.aload_n 0, 1) by decide +kernel) rfl (lv_at hl 0 rfl) ?_
  refine W.getf B.exec B.bytes hown (hts _ q1693) z1 z2 z3 z4 z5 rfl rfl (show decode cJ12_ordinal 1 = .ok (.getfield 7, 3) by decide +kernel) ?_
  refine W.eq (g2 := F0 m 4 ls [.int (nI i)]) rfl ?_
  exact W.iret B.exec B.bytes B.returns (fun t ht hW => ⟨rfl, ht⟩) (fun q h => by cases h) (show decode cJ12_ordinal 4 = .ok (.ireturn, 1) by decide +kernel)
theorem a_blind {Pc : Array Value → State → Prop} (h : ∀ (a : Array Value) (U V : State), U.heap = V.heap → U.vm = V.vm → Pc a U → Pc a V) : FrameBlind Pc := fun a U g mk hp => h a U (U.calling g mk a) rfl rfl hp
theorem sx_ord {idx : Nat} (C : aCx p s m meth c D mm) (hcel : gZ zE - gZ z0 ≤ R.cells) (hslo : gS zE - gS z0 ≤ R.slots) (hf : 8 ≤ R.frames) (hlo : 200 ≤ R.locals) (hi : decode (mBytes mm) pc = .ok (.invokevirtual idx, 3)) (hw : aOrd (mOwn mm) idx = some ()) (h : a_ord (pc + 3) L S z = some cf) (k : aWW p l e R s m args below meth c D mm z0 zE Q cf.1 cf.2.1 cf.2.2.1 cf.2.2.2) : aWW p l e R s m args below meth c D mm z0 zE Q pc L S z := by
  have K := C.2.2.2.2.2.2.1
  obtain ⟨a, S9, rfl, hc1, hc2, rfl⟩ := a_ord_inv h
  refine ⟨k.1, k.2.1, fun H ls locs hR hL hl hS h1 h2 => ?_⟩
  have k1 : gZ z ≤ gZ zE := k.1
  have k2 : gS z ≤ gS zE := k.2.1
  have hcat := aRh_cats D S9
  have hts : ∀ w ∈ lw_all, w.before args s = true := fun w h => K.word h args
  have hai : a < aKinds.length := hc1
  obtain ⟨-, hO, hF⟩ := K.kw.1.1 a hai
  have hOF := hF _ List.mem_cons_self
  have hval : (aOrds.getD a 0 : Int32) = nI a := by
    have : ∀ a, a < 13 → (aOrds.getD a 0 : Int32) = nI a := by decide +kernel
    exact this a hc1
  have hOF : va_OF "java/lang/Enum" "ordinal" "I" (.int (nI a)) (dK D a) (aA D) s s.heap := by
    rw [← hval]
    exact hOF
  have ea : aMu D a = dK D a := aMu_lt (Nat.lt_of_lt_of_le hc1 (by decide))
  show W p l e R s m args below meth c H locs _ _ Q (F0 m pc ls (.ref (aMu D a) :: S9.map (aRh D)))
  rw [ea]
  have cw := va_cwU (R := R) (s := s) (args := args) (own := aOwn (mOwn mm)) (C := "TraceWarden$Kind") (owner := "java/lang/Enum") (index := idx) (x := aOrdN) (y := yJ12_ordinal) (rm := { frames := 0, cells := 0, slots := 0, locals := 0 }) 0 hts
    (lw_app (a := [.methodLink (aOwn (mOwn mm)) idx aOrdN, .sameMethod aOrdN.cls "java/lang/Enum" aOrdN.name aOrdN.desc, .selects "TraceWarden$Kind" aOrdN yJ12_ordinal, .instanceMethod yJ12_ordinal, .initialized yJ12_ordinal.cls]) (List.forall_mem_cons.mpr ⟨aOrd_ok hw, List.forall_mem_cons.mpr ⟨q990, List.forall_mem_cons.mpr ⟨q992, List.forall_mem_cons.mpr ⟨q993, List.forall_mem_cons.mpr ⟨q88, fun _ h => absurd h List.not_mem_nil⟩⟩⟩⟩⟩) (lw_meth q994)) rfl rfl rfl rfl ⟨by decide +kernel, by decide +kernel, by decide +kernel⟩ ⟨by show 0 + 1 ≤ R.frames; omega, by show 8 + (1 + 11) + 0 ≤ R.locals; omega⟩
  have hrun := va_runU (l := l) (p := p) (e := e) (below := below) (meth := meth) (H := H) (locs := locs) (cells := gZ z - gZ z0) (slots := gS z - gS z0) (g := F0 m pc ls (.ref (dK D a) :: S9.map (aRh D))) (As := []) (rest := S9.map (aRh D)) (b := dK D a) (cc := mBytes mm) (nL := mLoc mm) (Ts := lw_all)
    ⟨C.1, C.2.1, C.2.2.1, C.2.2.2.2.2.1, hts⟩ (a_ordM l D a) cw ⟨a_blind (fun a U V e1 e2 h => ⟨h.1, by
      have := h.2.moved (U := V) (by rw [← e2]; exact Vm.Alike.refl _)
      rw [← e1]
      exact this⟩), va_Orecv hO hS, fun U hU hW => ⟨rfl, by
      rw [hU]
      exact (hOF.moved hW.alike).kept (fun q q1 q2 => hS.2.1 q q1 q2)⟩⟩ rfl rfl (by rw [← hl]; exact hL.1) rfl (by show 2 * 0 + _ ≤ 8; omega) hi ⟨by omega, by omega⟩
  intro T hT X
  obtain ⟨v, st₀, t, T', L9, g0, X', hL9, g1, g2, ⟨hv, hh⟩, st⟩ := hrun T hT X
  cases hv
  obtain ⟨t2, a1, b1⟩ := k.2.2 H ls locs hR hL hl hS h1 h2 T' (by rw [g1, hh, g0]) (Stand.forget X' (fun q h => (hL9 q h).elim))
  exact ⟨t2, st t2 a1, b1⟩
theorem sx_gcl {idx : Nat} (C : aCx p s m meth c D mm) (hf : 8 ≤ R.frames) (hlo : 200 ≤ R.locals) (hi : decode (mBytes mm) pc = .ok (.invokevirtual idx, 3)) (hw : aGcl (mOwn mm) idx = some ()) (h : a_gcl (pc + 3) L S z = some cf) (k : aWW p l e R s m args below meth c D mm z0 zE Q cf.1 cf.2.1 cf.2.2.1 cf.2.2.2) : aWW p l e R s m args below meth c D mm z0 zE Q pc L S z := by
  have K := C.2.2.2.2.2.2.1
  unfold a_gcl at h
  split at h
  · rename_i a S9
    split at h
    · rename_i hc
      obtain rfl := Option.some.inj h
      refine ⟨k.1, k.2.1, fun H ls locs hR hL hl hS h1 h2 => ?_⟩
      have hcat := aRh_cats D S9
      obtain ⟨cell, q1, q2, q3, q4, q5, q6, q7, q8⟩ := aArr_at K hR (show gT z a = (49, (gT z a).2) by rw [← hc.1]) (by decide) (by decide)
      have hfc := (K.2.2.2.2.1 49 (by decide) (by decide)).1
      exact va_getC C.1 C.2.1 (by rw [C.2.2.1, ← hl]; exact hL.1.symm) C.2.2.2.2.2.1 (K.word (aGcl_ok hw) args) (va_Nw.use rfl (K.kw.2.2.1 _ q1665)) (K.word q1664 args) (K.word q858 args) (K.word q880 args) K.kw.2.2.2.2.2.1 ⟨cell, q1, q4, by rw [q7]; exact hfc⟩ (by omega) (by omega) hi
        (by rw [← aMu_lt (D := D) (show 16 < 100 by decide)]; exact k.2.2 H ls locs hR hL hl hS h1 h2)
    · cases h
  · cases h
theorem a_acp_inv (h : a_acp pc' L S z = some cf) : ∃ (n dp : Int32) (d : Nat) (sp : Int32) (sa : Nat) (S' : List Value) (u t n0 n1 : Nat), S = .int n :: .int dp :: .ref d :: .int sp :: .ref sa :: S' ∧ gT z sa = (u, n0) ∧ gT z d = (t, n1) ∧ a_same u t = true ∧ 100 ≤ d ∧ S'.length ≤ 12 ∧ ¬ n < 0 ∧ ¬ sp < 0 ∧ ¬ dp < 0 ∧ sp.toNatClampNeg + n.toNatClampNeg ≤ n0 ∧ dp.toNatClampNeg + n.toNatClampNeg ≤ n1 ∧
    ((t = 40 ∧ cf = (pc', L, S', (z.1, a_cpy z.2.1 sa sp.toNatClampNeg d dp.toNatClampNeg n.toNatClampNeg, z.2.2))) ∨
     (t = 43 ∧ (∀ i, i < n.toNatClampNeg → vp_nar .byte (gI z sa (sp.toNatClampNeg + i)) = gI z sa (sp.toNatClampNeg + i)) ∧ cf = (pc', L, S', (z.1, a_cpy z.2.1 sa sp.toNatClampNeg d dp.toNatClampNeg n.toNatClampNeg, z.2.2))) ∨
     (t = 49 ∧ (∀ i, i < n.toNatClampNeg → a_elo z (gR z sa (sp.toNatClampNeg + i)) = true) ∧ cf = (pc', L, S', (z.1, z.2.1, z.2.2.1, a_cpy z.2.2.2.1 sa sp.toNatClampNeg d dp.toNatClampNeg n.toNatClampNeg, z.2.2.2.2)))) := by
  unfold a_acp at h
  split at h
  · rename_i n dp d sp sa S9
    split at h
    · rename_i hc
      split at h
      · cases h
      · rename_i hb
        simp only [not_or] at hb
        obtain ⟨b1, b2, b3, b4, b5⟩ := hb
        refine ⟨n, dp, d, sp, sa, S9, (gT z sa).1, (gT z d).1, (gT z sa).2, (gT z d).2, rfl, rfl, rfl, hc.1, hc.2.1, hc.2.2, b1, b2, b3, by omega, by omega, ?_⟩
        split at h
        · rename_i ht
          exact Or.inl ⟨ht, (Option.some.inj h).symm⟩
        · split at h
          · rename_i ht
            split at h
            · rename_i ha
              exact Or.inr (Or.inl ⟨ht, fun i hi => of_decide_eq_true (List.all_eq_true.mp ha i (List.mem_range.mpr hi)), (Option.some.inj h).symm⟩)
            · cases h
          · split at h
            · rename_i ht
              split at h
              · rename_i ha
                exact Or.inr (Or.inr ⟨ht, fun i hi => List.all_eq_true.mp ha i (List.mem_range.mpr hi), (Option.some.inj h).symm⟩)
              · cases h
            · cases h
    · cases h
  · cases h
/-- System.arraycopy, over the heap -/
theorem a_acpW (C : aCx p s m meth c D mm) (hf : 8 ≤ R.frames) (hlo : 200 ≤ R.locals) {idx : Nat} (hi : decode (mBytes mm) pc = .ok (.invokestatic idx, 3)) (hw : aAcp (mOwn mm) idx = some ()) {n dp sp : Int32} {d sa u t n0 n1 : Nat} {S9 : List Value} {H : Heap} {ls : Array Slot} {locs : List Loc} {cells slots : Nat} {z' : aSt}
    (hR : aRep D z H) (hL : aLoc D L ls) (hl : L.length = mLoc mm) (hS : va_S (aA D) s.heap H locs) (hTs : gT z sa = (u, n0)) (hTd : gT z d = (t, n1)) (g40 : 40 ≤ u) (g60 : u < 60) (hut : aElF u = aElF t) (h40 : 40 ≤ t) (h50 : t < 50) (hd : 100 ≤ d) (h9 : S9.length ≤ 12) (b1 : ¬ n < 0) (b2 : ¬ sp < 0) (b3 : ¬ dp < 0) (b4 : sp.toNatClampNeg + n.toNatClampNeg ≤ n0) (b5 : dp.toNatClampNeg + n.toNatClampNeg ≤ n1)
    (hfit : ∀ T : State, T.heap = H → ∀ vm', s.vm.Alike vm' → ∀ comp, (∃ kA : Class, s.vm.classes[dC D t]? = some kA ∧ kA.kind = .array comp (aElF t)) → ∀ i, i < n.toNatClampNeg → fits (aElF t) (aRh D (aVal z u sa (sp.toNatClampNeg + i))) = true ∧ (T.setVm vm').takes comp (aRh D (aVal z u sa (sp.toNatClampNeg + i))))
    (e1 : gT z' = gT z) (e2 : gZ z' = gZ z) (e4 : ∀ t b j, b ≠ d → aVal z' t b j = aVal z t b j) (e5 : ∀ j, aVal z' t d j = va_cpy (fun j => aVal z u sa j) (fun j => aVal z t d j) sp.toNatClampNeg dp.toNatClampNeg n.toNatClampNeg j)
    (k : ∀ (H' : Heap) (locs' : List Loc), aRep D z' H' → va_S (aA D) s.heap H' locs' → W p l e R s m args below meth c H' locs' cells slots Q (F0 m (pc + 3) ls (S9.map (aRh D)))) : W p l e R s m args below meth c H locs cells slots Q (F0 m pc ls (.int n :: .int dp :: .ref (aMu D d) :: .int sp :: .ref (aMu D sa) :: S9.map (aRh D))) := by
  have K := C.2.2.2.2.2.2.1
  have hcat := aRh_cats D S9
  obtain ⟨cs, q1, q2, q3, q4, q5, q6, q7, q8⟩ := aArr_at K hR hTs g40 g60
  obtain ⟨cd, r1, r2, r3, r4, r5, r6, r7, r8⟩ := aArr_at K hR hTd h40 (by omega)
  obtain ⟨-, cd9, r19, ⟨-, rm, -, -, -⟩, -⟩ := hR.2.2 d t n1 hTd (by omega)
  cases r1.symm.trans r19
  obtain ⟨rv, rm⟩ := rm hd
  obtain ⟨hkA, kA, comp, hk1, hk2, -⟩ := K.2.2.2.2.1 t h40 h50
  obtain ⟨kU, compU, hu1, hu2⟩ := aArr_cls K g40 g60
  intro T hT X
  obtain ⟨vm', X', step⟩ := X.arraycopy C.1 C.2.2.2.2.2.1 (K.word (aAcp_ok hw) args) (K.word q482 args) (K.word q481 args) (K.word q85 args) (src := aMu D sa) (dst := aMu D d) (cs := cs) (cd := cd) (srcPos := sp) (destPos := dp) (n := n) (by rw [hT]; exact q1) (by rw [hT]; exact r1)
    (VmData.ne_statics_of q4) (VmData.ne_statics_of r4) q3 r3 (by rw [q7]; exact hu1) (by rw [r7]; exact hk1) hu2 hk2 (by rw [hut]; cases refKind (aElF t) <;> simp) b2 b3 b1
    (by rw [a_toInt sp b2, a_toInt n b1]; have := q5.1; omega) (by rw [a_toInt dp b3, a_toInt n b1, r5.2.2 hd]; omega)
    (fun vm₁ hal i hi9 => by
      have e : cs.slots.getD (sp.toNatClampNeg + i) .null = aRh D (aVal z u sa (sp.toNatClampNeg + i)) := by
        rw [Array.getD_eq_getD_getElem?, q8 _ (by omega)]
        rfl
      rw [e]
      exact hfit T hT vm₁ hal comp ⟨kA, hk1, hk2⟩ i hi9)
    (g := F0 m pc ls (.int n :: .int dp :: .ref (aMu D d) :: .int sp :: .ref (aMu D sa) :: S9.map (aRh D))) rfl (by rw [C.2.2.1, ← hl]; exact hL.1) (rest := S9.map (aRh D)) rfl (by rw [C.2.1]; exact hi) (by omega) (by
      have hnw : nativeFrameWords "java/lang/System" "arraycopy" 5 + 11 ≤ 100 := by decide +kernel
      show 2 * 0 + _ + _ ≤ R.locals
      omega)
  obtain ⟨c1, c2, c3, c4, c5⟩ := a_copied (cs := cs) (cd := cd) (F := fun j => aRh D (aVal z u sa j)) (G := fun j => aRh D (aVal z t d j)) (dp := dp.toNatClampNeg) q8 r8 (r5.2.2 hd) b4
  have hlt : aMu D d < H.size := (Array.getElem?_eq_some_iff.mp r1).1
  have hheap : ((T.setVm vm').setCell (aMu D d) (copied cs cd sp dp n)).heap = H.setIfInBounds (aMu D d) (copied cs cd sp dp n) := by rw [← hT]; rfl
  have oq : ∀ q : Nat, q ≠ aMu D d → (H.setIfInBounds (aMu D d) (copied cs cd sp dp n))[q]? = H[q]? := fun q hq => by simp [Array.getElem?_setIfInBounds, Ne.symm hq]
  have hR' : aRep D z' (H.setIfInBounds (aMu D d) (copied cs cd sp dp n)) := hR.row hd hTd h40 (cell := copied cs cd sp dp n) (by simp [Array.getElem?_setIfInBounds, hlt]) ⟨c1.trans r7, fun _ => ⟨c2.trans rv, c3.trans rm⟩, (fun h => r3 (c2.symm.trans h)), by rw [show (copied cs cd sp dp n).vm = cd.vm from c2]; exact r4, fun _ => ⟨Nat.le_of_eq c4.symm, (congrArg Nat.toInt32 c4).trans rfl, fun _ => c4⟩⟩ (fun k hk => by
    rw [e5]
    refine (c5 k hk).trans (congrArg some ?_)
    unfold va_cpy
    split <;> rfl) (by simp) oq e1 e2 e4
  obtain ⟨t9, a1, b9⟩ := k _ _ hR' ⟨by simp; exact hS.1, fun q g1 g2 => by
      rw [oq q (fun e => g2 (by rw [e]; exact aMu_A hd))]
      exact hS.2.1 q g1 g2, fun q hq => by
      rcases List.mem_append.mp hq with h | h
      · exact hS.2.2 q h
      · obtain ⟨z9, -, hz⟩ := List.mem_map.mp h
        rw [← hz]
        exact aMu_A hd⟩ _ hheap X'
  exact ⟨t9, step t9 a1, b9⟩
end NAT
