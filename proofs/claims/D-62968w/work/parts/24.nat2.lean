/-! SOUNDNESS, 15: arraycopy, checkIndex -/
set_option maxRecDepth 100000
theorem a_cpy_v {α β : Type} (mk : α → β) (f : Nat → Nat → α) (b s a d n j : Nat) : mk (a_cpy f b s a d n a j) = va_cpy (fun j => mk (f b j)) (fun j => mk (f a j)) s d n j := by
  unfold a_cpy va_cpy
  rw [if_pos rfl]
  split <;> rfl
theorem a_cpy_o {α : Type} (f : Nat → Nat → α) {b s a d n c j : Nat} (h : c ≠ a) : a_cpy f b s a d n c j = f c j := if_neg h
section NAT2
variable {p : Program} {l : Launch} {e : Env} {R : Room} {s : State} {m : MethodId} {args : Array Value} {below : List Frame} {meth : Method} {c : Code} {D : aD} {mm : aMi} {z0 zE : aSt} {Q : State → Prop}
variable {pc pc' : Nat} {L : List (Option Value)} {S S' : List Value} {z : aSt} {cf : aCf}
theorem sx_acp {idx : Nat} (C : aCx p s m meth c D mm) (hf : 8 ≤ R.frames) (hlo : 200 ≤ R.locals) (hi : decode (mBytes mm) pc = .ok (.invokestatic idx, 3)) (hw : aAcp (mOwn mm) idx = some ()) (h : a_acp (pc + 3) L S z = some cf) (k : aWW p l e R s m args below meth c D mm z0 zE Q cf.1 cf.2.1 cf.2.2.1 cf.2.2.2) : aWW p l e R s m args below meth c D mm z0 zE Q pc L S z := by
  have K := C.2.2.2.2.2.2.1
  obtain ⟨n, dp, d, sp, sa, S9, u, t, n0, n1, rfl, hTs, hTd, hsm, hd, h9, b1, b2, b3, b4, b5, hcase⟩ := a_acp_inv h
  have hsm2 : u = t ∨ (t = 43 ∧ 51 ≤ u ∧ u < 60) := by
    unfold a_same at hsm
    simp only [Bool.or_eq_true, Bool.and_eq_true] at hsm
    rcases hsm with h | ⟨⟨h1, h2⟩, h3⟩
    · exact Or.inl (Nat.eq_of_beq_eq_true h)
    · exact Or.inr ⟨Nat.eq_of_beq_eq_true h1, Nat.le_of_ble_eq_true h2, Nat.le_of_ble_eq_true h3⟩
  rcases hcase with ⟨rfl, rfl⟩ | ⟨rfl, hbt, rfl⟩ | ⟨rfl, hel, rfl⟩
  · obtain rfl : u = 40 := by omega
    refine ⟨k.1, k.2.1, fun H ls locs hR hL hl hS h1 h2 => ?_⟩
    refine a_acpW C hf hlo hi hw (z' := (z.1, a_cpy z.2.1 sa sp.toNatClampNeg d dp.toNatClampNeg n.toNatClampNeg, z.2.2)) hR hL hl hS hTs hTd (by decide) (by decide) rfl (by decide) (by decide) hd h9 b1 b2 b3 b4 b5 (fun T hT vm' _ comp _ i hi9 => ⟨rfl, trivial⟩) rfl rfl (fun t b j hb => ?_) (fun j => ?_) (fun H' locs' hR' hS' => k.2.2 H' ls locs' hR' hL hl hS' h1 h2)
    · unfold aVal
      rw [show gI (z.1, a_cpy z.2.1 sa sp.toNatClampNeg d dp.toNatClampNeg n.toNatClampNeg, z.2.2) b j = gI z b j from a_cpy_o z.2.1 hb]
      rfl
    · exact a_cpy_v Value.int z.2.1 sa sp.toNatClampNeg d dp.toNatClampNeg n.toNatClampNeg j
  · have hu : aElF u = .byte ∧ 40 ≤ u ∧ u < 60 ∧ ∀ k, aVal z u sa k = .int (gI z sa k) := by
      rcases hsm2 with rfl | ⟨-, g1, g2⟩
      · exact ⟨rfl, by decide, by decide, fun _ => rfl⟩
      · have : u = 51 ∨ u = 52 ∨ u = 53 ∨ u = 54 ∨ u = 55 ∨ u = 56 ∨ u = 57 ∨ u = 58 ∨ u = 59 := by omega
        rcases this with rfl | rfl | rfl | rfl | rfl | rfl | rfl | rfl | rfl
        all_goals exact ⟨rfl, by decide, by decide, fun _ => rfl⟩
    refine ⟨k.1, k.2.1, fun H ls locs hR hL hl hS h1 h2 => ?_⟩
    refine a_acpW C hf hlo hi hw (z' := (z.1, a_cpy z.2.1 sa sp.toNatClampNeg d dp.toNatClampNeg n.toNatClampNeg, z.2.2)) hR hL hl hS hTs hTd hu.2.1 hu.2.2.1 hu.1 (by decide) (by decide) hd h9 b1 b2 b3 b4 b5 (fun T hT vm' _ comp _ i hi9 => ?_) rfl rfl (fun t b j hb => ?_) (fun j => ?_) (fun H' locs' hR' hS' => k.2.2 H' ls locs' hR' hL hl hS' h1 h2)
    · rw [hu.2.2.2]
      refine ⟨?_, trivial⟩
      have e2 : narrow .byte (.int (gI z sa (sp.toNatClampNeg + i))) = .int (gI z sa (sp.toNatClampNeg + i)) := congrArg Value.int (hbt i hi9)
      show fits .byte (.int (gI z sa (sp.toNatClampNeg + i))) = true
      rw [← e2]
      exact fits_narrow_byte _
    · unfold aVal
      rw [show gI (z.1, a_cpy z.2.1 sa sp.toNatClampNeg d dp.toNatClampNeg n.toNatClampNeg, z.2.2) b j = gI z b j from a_cpy_o z.2.1 hb]
      rfl
    · rw [show (fun j => aVal z u sa j) = (fun j => Value.int (gI z sa j)) from funext hu.2.2.2]
      exact a_cpy_v Value.int z.2.1 sa sp.toNatClampNeg d dp.toNatClampNeg n.toNatClampNeg j
  · obtain rfl : u = 49 := by omega
    refine ⟨k.1, k.2.1, fun H ls locs hR hL hl hS h1 h2 => ?_⟩
    refine a_acpW C hf hlo hi hw (z' := (z.1, z.2.1, z.2.2.1, a_cpy z.2.2.2.1 sa sp.toNatClampNeg d dp.toNatClampNeg n.toNatClampNeg, z.2.2.2.2)) hR hL hl hS hTs hTd (by decide) (by decide) rfl (by decide) (by decide) hd h9 b1 b2 b3 b4 b5 (fun T hT vm' hal comp hcomp i hi9 => ?_) rfl rfl (fun t b j hb => ?_) (fun j => ?_) (fun H' locs' hR' hS' => k.2.2 H' ls locs' hR' hL hl hS' h1 h2)
    · have hel9 := hel i hi9
      show fits (.object "java/lang/Object") (aRh D (va_rf (gR z sa (sp.toNatClampNeg + i)))) = true ∧ (T.setVm vm').takes comp (aRh D (va_rf (gR z sa (sp.toNatClampNeg + i))))
      cases hy : gR z sa (sp.toNatClampNeg + i) with
      | none => exact ⟨rfl, trivial⟩
      | some y =>
        rw [hy] at hel9
        obtain ⟨q0, hq, -, -, hq2⟩ := aAst_inv (show aAst 49 (gT z y).1 = true from hel9)
        obtain ⟨cell, q1, q2, -, -, q5, -, -⟩ := aObj_at hR (show gT z y = ((gT z y).1, (gT z y).2) from rfl) hq
        obtain ⟨-, kA, comp9, hk1, hk2, hk3⟩ := K.2.2.2.2.1 49 (by decide) (by decide)
        obtain ⟨kA9, hk19, hk29⟩ := hcomp
        cases hk1.symm.trans hk19
        cases hk2.symm.trans hk29
        have hco := hk3 "java/lang/Object" rfl
        have hfc := (aKn K hq).2.1
        have hcast : s.vm.assignable (dC D (gT z y).1) comp = true := by
          have hCO : q0.1 ∈ aCO := by
            rcases hq2 with h | h
            · have h : FieldType.object "java/lang/Object" = .object q0.1 := h
              exfalso
              have h3 : "java/lang/Object" = q0.1 := by injection h
              have : ∀ t, t < 18 → ∀ q : vw_C, aCl[t]? = some q → "java/lang/Object" ≠ q.1 := by
                intro t ht q hq
                have : ((aCl[t]?).map (fun q : vw_C => decide ("java/lang/Object" ≠ q.1))) = some true := by
                  have : ∀ t, t < 18 → ((aCl[t]?).map (fun q : vw_C => decide ("java/lang/Object" ≠ q.1))) = some true := by decide +kernel
                  exact this t ht
                rw [hq] at this
                simpa using this
              exact this _ (by have := (List.getElem?_eq_some_iff.mp hq).1; simpa [aCl] using this) q0 hq h3
            · exact h.2
          obtain ⟨c1, c2, w1, w2, w3⟩ := Cond.castable_spec (va_Nw.use (A := #[]) rfl (K.2.2.2.2.2.2.1 _ hCO))
          cases w1.symm.trans hfc
          cases w2.symm.trans hco
          exact w3
        obtain ⟨kC, hkC, -⟩ := Vm.findClass_spec hfc
        obtain ⟨kE, hkE, -⟩ := Vm.findClass_spec hco
        obtain ⟨kC', hkC', -⟩ := hal.2.2 _ _ hkC
        obtain ⟨kE', hkE', -⟩ := hal.2.2 _ _ hkE
        refine ⟨rfl, cell, (show T.heap[aMu D y]? = some cell by rw [hT]; exact q1), VmData.ne_statics_of q5, ⟨kC', by rw [q2]; exact hkC'⟩, ⟨kE', hkE'⟩, ?_⟩
        show vm'.assignable cell.cls comp = true
        rw [hal.assignable, q2]
        exact hcast
    · unfold aVal
      rw [show gR (z.1, z.2.1, z.2.2.1, a_cpy z.2.2.2.1 sa sp.toNatClampNeg d dp.toNatClampNeg n.toNatClampNeg, z.2.2.2.2) b j = gR z b j from a_cpy_o z.2.2.2.1 hb]
      rfl
    · exact a_cpy_v va_rf z.2.2.2.1 sa sp.toNatClampNeg d dp.toNatClampNeg n.toNatClampNeg j
/-- Preconditions.checkIndex, in range -/
theorem a_pchM (l : Launch) (i n : Int32) (v : Value) (hi : ¬ i < 0) (hn : i < n) (hv : v = .null ∨ ∃ x, v = .ref x) : Met l yJ11_checkIndex (ws_ yJ11_checkIndex cJ11_checkIndex 3 (some .int)) { frames := 0, cells := 0, slots := 0, locals := 0 } (fun a _ => a = #[.int i, .int n, v]) (QcRead i) 0 0 (fun _ => False) := by
  refine Met.ofW (cc := cJ11_checkIndex) (maxL := 3) (ret := some .int) (by decide +kernel) rfl ?_
  intro p e s m args below meth c s₁ B hml hv
  subst hv
  have hl := lv_entry ([.int i, .int n, v]) (n := 3) (by rcases hv with rfl | ⟨x, rfl⟩ <;> exact Nat.le_of_ble_eq_true rfl)
  have hlocks := B.notSynchronized
  rw [show (#[Value.int i, .int n, v] : Array Value) = ([Value.int i, .int n, v] : List Value).toArray from rfl, lg_entry_eq]
  generalize (lg_sl ([.int i, .int n, v]) ++ List.replicate (3 - (lg_sl ([.int i, .int n, v])).length) Slot.unset).toArray = ls at hl ⊢
  have hl0 : ls[0]? = some (.val (.int i)) := hl.2.2 (0, .int i) (by simp [lv_args, Value.category])
  have hl1 : ls[1]? = some (.val (.int n)) := hl.2.2 (1, .int n) (by simp [lv_args, Value.category])
  refine lv_iload_n B.exec B.bytes (show decode cJ11_checkIndex 0 = .ok (.iload_n 0, 1) by decide +kernel) rfl hl0 ?_
  refine lv_if_lt B.exec B.bytes (show decode cJ11_checkIndex 1 = .ok (.ifCond .lt 8, 3) by decide +kernel) (tgt := 9) (by decide) (fun h => absurd h hi) (fun _ => ?_)
  refine lv_iload_n B.exec B.bytes (show decode cJ11_checkIndex 4 = .ok (.iload_n 0, 1) by decide +kernel) rfl hl0 ?_
  refine lv_iload_n B.exec B.bytes (show decode cJ11_checkIndex 5 = .ok (.iload_n 1, 1) by decide +kernel) rfl hl1 ?_
  refine lv_icmp_lt B.exec B.bytes (show decode cJ11_checkIndex 6 = .ok (.if_icmp .lt 10, 3) by decide +kernel) (tgt := 16) (by decide) (fun _ => ?_) (fun h => absurd hn h)
  refine lv_iload_n B.exec B.bytes (show decode cJ11_checkIndex 16 = .ok (.iload_n 0, 1) by decide +kernel) rfl hl0 ?_
  exact W.iret B.exec B.bytes B.returns (fun t ht hW => ⟨rfl, ht⟩) (fun q h => by cases h) (show decode cJ11_checkIndex 17 = .ok (.ireturn, 1) by decide +kernel)
def a_QV : Array Value → State → Outcome → State → Prop := fun _ st o t => o = .returned none ∧ t.heap = st.heap
/-- String.checkIndex, in range -/
theorem a_schM (l : Launch) (D : aD) (i n : Int32) (hi : ¬ i < 0) (hn : i < n) : Met l yJ18_checkIndex (ws_ yJ18_checkIndex cJ18_checkIndex 2 none) { frames := 1, cells := 0, slots := 0, locals := 40 } (fun a U => a = #[.int i, .int n] ∧ va_Zq "jdk/internal/util/Preconditions" "SIOOBE_FORMATTER" "Ljava/util/function/BiFunction;" (aA D) U U.heap) a_QV 0 0 (fun _ => False) := by
  refine Met.ofW (cc := cJ18_checkIndex) (maxL := 2) (ret := none) (by decide +kernel) rfl ?_
  intro p e s m args below meth c s₁ B hml hv
  obtain ⟨rfl, hZ⟩ := hv
  have hts := atoms_spec (ws := ws_ yJ18_checkIndex cJ18_checkIndex 2 none) B.pre
  have hts : ∀ w ∈ lw_all, w.before _ s = true := fun w h => hts w (List.mem_cons_of_mem _ h)
  have hown : s.vm.findClass RJ18 = some m.cls := findClass_of_methodNamed B.named
  have hl := lv_entry ([.int i, .int n]) (n := 2) (Nat.le_of_ble_eq_true rfl)
  have hlocks := B.notSynchronized
  rw [show (#[Value.int i, .int n] : Array Value) = ([Value.int i, .int n] : List Value).toArray from rfl, lg_entry_eq]
  generalize (lg_sl ([.int i, .int n]) ++ List.replicate (2 - (lg_sl ([.int i, .int n])).length) Slot.unset).toArray = ls at hl ⊢
  have hl : lv_has ls 2 [(0, .int i), (1, .int n)] := hl
  refine lv_iload_n B.exec B.bytes (show decode cJ18_checkIndex 0 = .ok (.iload_n 0, 1) by decide +kernel) rfl (lv_at hl 0 rfl) ?_
  refine lv_iload_n B.exec B.bytes (show decode cJ18_checkIndex 1 = .ok (.iload_n 1, 1) by decide +kernel) rfl (lv_at hl 1 rfl) ?_
  have hv : ∃ v : Value, (v = .null ∨ ∃ x, v = .ref x) ∧ va_Z "jdk/internal/util/Preconditions" "SIOOBE_FORMATTER" "Ljava/util/function/BiFunction;" v (aA D) s s.heap := by
    rcases hZ with h | ⟨t, h⟩
    · exact ⟨_, Or.inl rfl, h⟩
    · exact ⟨_, Or.inr ⟨t, rfl⟩, h⟩
  obtain ⟨v, hvr, hZ⟩ := hv
  refine va_gets B.exec B.bytes hZ (va_S.rf) hown (hts _ q500) (fun x h => h) (show decode cJ18_checkIndex 2 = .ok (.getstatic 1053, 3) by decide +kernel) ?_
  have hrun := va_runS (l := l) (p := p) (e := e) (below := below) (meth := meth) (H := s.heap) (locs := []) (cells := 0) (slots := 0) (R := (headSpec (ws_ yJ18_checkIndex cJ18_checkIndex 2 none) { frames := 1, cells := 0, slots := 0, locals := 40 }).room) (g := F0 m 5 ls [v, .int n, .int i]) (As := [.int i, .int n, v]) (rest := []) (cc := cJ18_checkIndex) (nL := 2) (Ts := lw_all)
    ⟨B.exec, B.bytes, hml, hown, hts⟩ (a_pchM l i n v hi hn hvr) (va_cwS 3 hts (lw_S q743 q744 q87 q745) rfl rfl rfl ⟨by decide +kernel, by decide +kernel, by decide +kernel⟩ ⟨Nat.le_of_ble_eq_true rfl, Nat.le_of_ble_eq_true rfl⟩) ⟨fun _ _ _ _ h => h, fun _ _ _ => rfl⟩ rfl rfl hl.1 rfl (Nat.le_of_ble_eq_true rfl) (show decode cJ18_checkIndex 5 = .ok (.invokestatic 1059, 3) by decide +kernel) ⟨Nat.le_refl _, Nat.le_refl _⟩
  intro T hT X
  obtain ⟨v9, st₀, t, T', L9, g0, X', hL9, g1, g2, ⟨hv9, hh⟩, st⟩ := hrun T hT X
  cases hv9
  have hend : W p l e (headSpec (ws_ yJ18_checkIndex cJ18_checkIndex 2 none) { frames := 1, cells := 0, slots := 0, locals := 40 }).room s m #[.int i, .int n] below meth c s.heap [] 0 0 (MQ below a_QV #[.int i, .int n] s 0 0 (fun _ => False)) (F0 m 8 ls [.int i]) := by
    refine lv_pop B.exec B.bytes (show decode cJ18_checkIndex 8 = .ok (.pop, 1) by decide +kernel) rfl ?_
    exact W.vret B.exec B.bytes B.returns (fun t ht hW => ⟨rfl, ht⟩) (fun q h => by cases h) (show decode cJ18_checkIndex 9 = .ok (.return_, 1) by decide +kernel)
  obtain ⟨t2, a1, b1⟩ := hend T' (by rw [g1, hh, g0]) (Stand.forget X' (fun q h => (hL9 q h).elim))
  exact ⟨t2, st t2 a1, b1⟩
theorem a_chx_inv (h : a_chx pc' L S z = some cf) : ∃ n i S', S = .int n :: .int i :: S' ∧ ¬ i < 0 ∧ i < n ∧ S'.length ≤ 4 ∧ cf = (pc', L, S', z) := by
  unfold a_chx at h
  split at h
  · split at h
    · rename_i hc
      exact ⟨_, _, _, rfl, Int32.not_lt.mpr hc.1, hc.2.1, hc.2.2, (Option.some.inj h).symm⟩
    · cases h
  · cases h
theorem sx_chx {idx : Nat} (C : aCx p s m meth c D mm) (hcel : gZ zE - gZ z0 ≤ R.cells) (hslo : gS zE - gS z0 ≤ R.slots) (hf : 8 ≤ R.frames) (hlo : 200 ≤ R.locals) (hi : decode (mBytes mm) pc = .ok (.invokestatic idx, 3)) (hw : aChx (mOwn mm) idx = some ()) (h : a_chx (pc + 3) L S z = some cf) (k : aWW p l e R s m args below meth c D mm z0 zE Q cf.1 cf.2.1 cf.2.2.1 cf.2.2.2) : aWW p l e R s m args below meth c D mm z0 zE Q pc L S z := by
  have K := C.2.2.2.2.2.2.1
  obtain ⟨n, i, S9, rfl, b1, b2, hc2, rfl⟩ := a_chx_inv h
  refine ⟨k.1, k.2.1, fun H ls locs hR hL hl hS h1 h2 => ?_⟩
  have k1 : gZ z ≤ gZ zE := k.1
  have k2 : gS z ≤ gS zE := k.2.1
  have hcat := aRh_cats D S9
  have hts : ∀ w ∈ lw_all, w.before args s = true := fun w h => K.word h args
  have hZ := (K.kw.2.1 _ (List.mem_of_getElem? (i := 2) rfl)).2
  have cw := va_cwS (R := R) (s := s) (args := args) (own := aOwn (mOwn mm)) (index := idx) (y := yJ18_checkIndex) (rm := { frames := 1, cells := 0, slots := 0, locals := 40 }) 2 hts (lw_S (aChx_ok hw) q741 q95 q742) rfl rfl rfl ⟨by decide +kernel, by decide +kernel, by decide +kernel⟩ ⟨by show 1 + 1 ≤ R.frames; omega, by show 8 + (2 + 11) + 40 ≤ R.locals; omega⟩
  have hrun := va_runS (l := l) (p := p) (e := e) (below := below) (meth := meth) (H := H) (locs := locs) (cells := gZ z - gZ z0) (slots := gS z - gS z0) (g := F0 m pc ls (.int n :: .int i :: S9.map (aRh D))) (As := [.int i, .int n]) (rest := S9.map (aRh D)) (cc := mBytes mm) (nL := mLoc mm) (Ts := lw_all)
    ⟨C.1, C.2.1, C.2.2.1, C.2.2.2.2.2.1, hts⟩ (a_schM l D i n b1 b2) cw ⟨a_blind (fun a U V e1 e2 h => ⟨h.1, by
      have := h.2.moved (U := V) (by rw [← e2]; exact Vm.Alike.refl _)
      rw [← e1]
      exact this⟩), fun U hU hW => ⟨rfl, by
      rw [hU]
      exact (hZ.moved hW.alike).kept (fun q q1 q2 => hS.2.1 q q1 q2)⟩⟩ rfl rfl (by rw [← hl]; exact hL.1) rfl (by show 2 * 0 + _ ≤ 8; omega) hi ⟨by omega, by omega⟩
  intro T hT X
  obtain ⟨v, st₀, t, T', L9, g0, X', hL9, g1, g2, ⟨hv, hh⟩, st⟩ := hrun T hT X
  cases hv
  obtain ⟨t2, a1, b9⟩ := k.2.2 H ls locs hR hL hl hS h1 h2 T' (by rw [g1, hh, g0]) (Stand.forget X' (fun q h => (hL9 q h).elim))
  exact ⟨t2, st t2 a1, b9⟩
end NAT2
