/-! THE START, 2: the machine's heap at the law's entry holds it -/
set_option maxRecDepth 100000
theorem st_lay : ∀ i, i < 13 → Cond.laysStatic "TraceWarden$Kind" (aKinds.getD i "") "LTraceWarden$Kind;" ∈ lw_tbl := by
  intro i hi
  match i, hi with
  | 0, _ => exact q958
  | 1, _ => exact q902
  | 2, _ => exact q904
  | 3, _ => exact q944
  | 4, _ => exact q946
  | 5, _ => exact q948
  | 6, _ => exact q950
  | 7, _ => exact q952
  | 8, _ => exact q932
  | 9, _ => exact q942
  | 10, _ => exact q920
  | 11, _ => exact q936
  | 12, _ => exact q934
  | i + 13, h => omega
theorem st_nst {v : VmData} (h : ∀ k, v ≠ .statics k) : v.isStatics = false := by
  cases v <;> first | rfl | exact absurd rfl (h _)
theorem st_arr {s : State} {A : Array Value} (hall : ∀ w ∈ lw_all, w.before A s = true) (hts : ∀ w ∈ lw_tbl, w.before A s = true) : ∀ t, 40 ≤ t → t < 50 → ∃ cA, aArr s cA (aElF t) := by
  intro t h40 h50
  have prim : ∀ ty, (∀ C, ty ≠ FieldType.object C) → Cond.arrayClass ty ∈ lw_all → ∃ cA, aArr s cA ty := fun ty hty hw => by
    obtain ⟨c, k, comp, h1, h2, h3⟩ := Cond.arrayClass_spec (hall _ hw)
    exact ⟨c, h1, k, comp, h2, h3, fun C hC => absurd hC (hty C)⟩
  have refs : ∀ C, Cond.arrayOver (.object C) ∈ lw_tbl → ∃ cA, aArr s cA (.object C) := fun C hw => by
    obtain ⟨comp, c, k, h1, h2, h3, h4, h5⟩ := Cond.arrayOver_spec (hts _ hw)
    exact ⟨c, h5, k, comp, h3, h4, fun C' hC => by injection hC with hC; rw [← hC]; exact h1⟩
  have : t = 40 ∨ t = 41 ∨ t = 42 ∨ t = 43 ∨ t = 44 ∨ t = 45 ∨ t = 46 ∨ t = 47 ∨ t = 48 ∨ t = 49 := by omega
  rcases this with rfl | rfl | rfl | rfl | rfl | rfl | rfl | rfl | rfl | rfl
  · exact prim _ (fun C h => by cases h) q188
  · exact prim _ (fun C h => by cases h) q141
  · exact prim _ (fun C h => by cases h) q189
  · exact prim _ (fun C h => by cases h) q376
  · exact prim _ (fun C h => by cases h) q1406
  · exact refs _ q168
  · exact refs _ q170
  · exact refs _ q228
  · exact refs _ q287
  · exact refs _ q885
theorem st_selX {s : State} {A : Array Value} (hall : ∀ w ∈ lw_all, w.before A s = true) (hts : ∀ w ∈ lw_tbl, w.before A s = true) : ∀ y ∈ aSelX, (Cond.selects "java/lang/StringBuilder" y y).before #[] s = true := by
  intro y hy
  obtain ⟨hm, hp, hin⟩ := aSelX_ok y hy
  have hcls : y.cls = "java/lang/AbstractStringBuilder" := by
    have : ∀ y ∈ aSelX, y.cls = "java/lang/AbstractStringBuilder" := by decide +kernel
    exact this y hy
  obtain ⟨c, k, hc, hk, -, -, -, -⟩ := Cond.instantiable_spec (hall _ q406)
  obtain ⟨mk, methM, hnamed, hmethM, -, -⟩ := Cond.instanceMethod_spec (hall _ hin)
  have hfound : s.methodFound? y.cls y.name y.desc = some mk := State.methodFound?_of_named hnamed hm
  have hca : s.vm.findClass "java/lang/AbstractStringBuilder" = some mk.cls := by rw [← hcls]; exact findClass_of_methodNamed hnamed
  obtain ⟨cn, kA, r1, hcn, g2, hni, -, -⟩ := Cond.sameMethod_found (hall _ q485)
  cases hca.symm.trans hcn
  have hsel : selectMethod {} s.vm c mk = .method mk := selectMethod_private hmethM (Cond.privateMethod_at (hts _ hp) mk methM hnamed hmethM)
  simp only [Cond.before, Cond.holds, Cond.value, hc, hfound, hnamed, hsel, g2]
  simp; exact hni
set_option maxHeartbeats 2000000 in
theorem aStart {s : State} {b L : Nat} {xs : Nat → Int32} (hts : ∀ w ∈ lw_tbl, w.before #[Value.ref b] s = true) (hX : va_X b L xs s s.heap) (hbl : b < s.heap.size) (hgv : (Jvm.Cond.and given_1 narrow_1).before #[Value.ref b] s = true) : ∃ D : aD, aKV D s ∧ aRep D (aZ0 L xs) s.heap ∧ aMu D 40 = b ∧ dB D = s.heap.size := by
  have hF : ∀ w ∈ aFl, w.before #[Value.ref b] s = true := flat_of_before _ hgv
  have hall : ∀ w ∈ lw_all, w.before #[Value.ref b] s = true := fun w h => hts w (lw_all_tbl h)
  have hA : ∀ a : Nat, a < s.heap.size → ¬ (s.heap.size ≤ a) := fun a h h2 => by omega
  obtain ⟨ad, hE⟩ := va_Ecof (args := #[Value.ref b]) (s := s) (SC := "TraceWarden$Kind") (E := "TraceWarden$Kind") (d := "LTraceWarden$Kind;") (nm := aKinds) (F := [("java/lang/Enum", "ordinal", "I", aOrds)]) (A := fun q => s.heap.size ≤ q) (fun i hi => hts _ (st_lay i hi)) (hall _ q89) (fun i hi => hF _ (st_kind i hi).1)
    (fun q hq i hi => by rw [List.mem_singleton.mp hq]; exact hF _ (st_kind i hi).2) (fun i j hi hj hij => (st_kne i hi j hj hij).imp (hF _) (hF _)) hA
  obtain ⟨adK, adV, hSt, hSe⟩ := vk_Sof (args := #[Value.ref b]) (s := s) (N := 7) (tm := fun i => .string "TraceWarden" (sIx.getD i 0)) (len := sLn) (byt := sBy) (A := fun q => s.heap.size ≤ q) (by decide) (fun i hi => hF _ (st_str i hi).1) (fun i hi => hF _ (st_str i hi).2.1) (fun i hi => hF _ (st_str i hi).2.2.1) (fun i hi => hF _ (st_str i hi).2.2.2)
    (fun i hi j hj => hF _ (st_byt i hi j hj)) (fun i j hi hj hij => (st_sne i hi j hj hij).imp (hF _) (hF _)) hA
  obtain ⟨m1, m2, m3, m4, m5, m6, m7, m8, m9⟩ := st_misc
  obtain ⟨t15, e15, h15⟩ := va_Tof (tm := .static "java/lang/Integer" "DigitOnes" "[B") (ty := .byte) (N := 100) (f := fun j => .int (nI (48 + j % 10))) (A := fun q => s.heap.size ≤ q) (by decide) (hF _ m6) (va_eqt (hF _ m8)) (fun j hj => va_eqt (hF _ (st_ones j hj))) hA
  obtain ⟨t14, e14, h14⟩ := va_Tof (tm := .static "java/lang/Integer" "DigitTens" "[B") (ty := .byte) (N := 100) (f := fun j => .int (nI (48 + j / 10))) (A := fun q => s.heap.size ≤ q) (by decide) (hF _ m7) (va_eqt (hF _ m9)) (fun j hj => va_eqt (hF _ (st_tens j hj))) hA
  obtain ⟨t13, e13, h13⟩ := va_Tof (tm := .static "java/util/ArrayList" "DEFAULTCAPACITY_EMPTY_ELEMENTDATA" "[Ljava/lang/Object;") (ty := .object "java/lang/Object") (N := 0) (f := fun _ => .null) (A := fun q => s.heap.size ≤ q) (by decide) (hF _ m3) (va_eqt (hF _ m4)) (fun j hj => absurd hj (by omega)) hA
  obtain ⟨a13, c13, cA13, kA13, x1, x2, x3, x4, x5, x6, -⟩ := Cond.exactly_spec (args := #[Value.ref b]) (first := s) (o := none) (s := s) (idx := []) (hF _ m2)
  cases Value.ref.inj (Option.some.inj (x1.symm.trans e13))
  obtain ⟨mi, hMi⟩ := va_Mi.of (hF _ m1)
  obtain ⟨scr, hscr, hsA, hsk, hss, hsv⟩ := hX
  obtain ⟨ce13, y1, y2, y3, y4, y5, y6, y7⟩ := h13
  cases x3.symm.trans y1
  obtain ⟨ce14, u1, u2, u3, u4, u5, u6, u7⟩ := h14
  obtain ⟨ce15, w1, w2, w3, w4, w5, w6, w7⟩ := h15
  have hvc : ∀ i : Nat, ∃ cell : Cell, i < 7 → s.heap[adV i]? = some cell ∧ s.isArrayOf cell .byte ∧ cell.vm ≠ .unknown ∧ sLn.getD i 0 ≤ cell.slots.size ∧ cell.slots.size.toInt32 = Int32.ofNat (sLn.getD i 0) ∧ (∀ j : Nat, j < sLn.getD i 0 → cell.slots[j]? = some (.int ((sBy.getD i []).getD j 0))) ∧ ¬ s.heap.size ≤ adV i := by
    intro i
    by_cases hi : i < 7
    · obtain ⟨cell, h⟩ := (hSt.1 i hi).2.2.2
      exact ⟨cell, fun _ => h⟩
    · exact ⟨scr, fun h => absurd h hi⟩
  obtain ⟨vc, hvc⟩ := Classical.axiomOfChoice hvc
  have hcl : ∀ t : Nat, ∃ q : ClassId × (Nat → Nat), (∀ k, aCl[t]? = some k → u_Kn s k.1 k.2.1 k.2.2 q.1 q.2) ∧ (40 ≤ t → t < 50 → aArr s q.1 (aElF t)) := by
    intro t
    cases ht : aCl[t]? with
    | some k =>
      obtain ⟨n, hn⟩ := aIn_ok t k ht
      obtain ⟨cC, iS, hk⟩ := u_known hall (aNm_ok t k ht).2.1 (hall _ hn)
      exact ⟨(cC, iS), fun k' h => by cases h; exact hk, fun h => by have := (aTl t k ht).2; omega⟩
    | none =>
      by_cases h : 40 ≤ t ∧ t < 50
      · obtain ⟨cA, hcA⟩ := st_arr hall hts t h.1 h.2
        exact ⟨(cA, fun _ => 0), (fun k' h => by cases h), fun _ _ => hcA⟩
      · exact ⟨(0, fun _ => 0), (fun k' h => by cases h), fun h1 h2 => absurd (And.intro h1 h2) h⟩
  obtain ⟨dcl, hcl⟩ := Classical.axiomOfChoice hcl
  have sltV : ∀ i, i < 7 → adV i < s.heap.size := fun i hi => (Array.getElem?_eq_some_iff.mp (hvc i hi).1).1
  have sltK : ∀ i, i < 7 → adK i < s.heap.size := fun i hi => by
    obtain ⟨cell, h, -⟩ := (hSt.1 i hi).1
    exact (Array.getElem?_eq_some_iff.mp h).1
  have hD : ∃ D : aD, (∀ t, t < 50 → dC D t = (dcl t).1) ∧ dC D 50 = scr.cls ∧ dC D 51 = ce14.cls ∧ dC D 52 = ce15.cls ∧ (∀ i, i < 7 → dC D (53 + i) = (vc i).cls) ∧ (∀ t, dS D t = (dcl t).2) ∧ (∀ a, a < 13 → dK D a = ad a) ∧ dK D 13 = t13 ∧ dK D 14 = t14 ∧ dK D 15 = t15 ∧ dK D 16 = mi ∧ (∀ i, i < 7 → dK D (20 + 2 * i) = adK i ∧ dK D (21 + 2 * i) = adV i) ∧ dK D 40 = b ∧ dB D = s.heap.size ∧ ∀ a, a < 100 → a ≠ 16 → dK D a < s.heap.size := by
    refine ⟨(fun t => if t < 50 then (dcl t).1 else if t = 50 then scr.cls else if t = 51 then ce14.cls else if t = 52 then ce15.cls else (vc (t - 53)).cls, fun t => (dcl t).2,
      fun a => if a < 13 then ad a else if a = 13 then t13 else if a = 14 then t14 else if a = 15 then t15 else if a = 16 then mi else if 20 ≤ a ∧ a < 34 then (if a % 2 = 0 then adK ((a - 20) / 2) else adV ((a - 20) / 2)) else b, s.heap.size), ?_⟩
    simp only [dC, dS, dK, dB]
    refine ⟨fun t ht => if_pos ht, rfl, rfl, rfl, fun i hi => ?_, fun _ => trivial, fun a ha => if_pos ha, rfl, rfl, rfl, rfl, fun i hi => ⟨?_, ?_⟩, rfl, trivial, fun a ha h16 => ?_⟩
    · rw [if_neg (by omega), if_neg (by omega), if_neg (by omega), if_neg (by omega), show 53 + i - 53 = i by omega]
    · rw [if_neg (by omega), if_neg (by omega), if_neg (by omega), if_neg (by omega), if_neg (by omega), if_pos (by omega), if_pos (by omega), show (20 + 2 * i - 20) / 2 = i by omega]
    · rw [if_neg (by omega), if_neg (by omega), if_neg (by omega), if_neg (by omega), if_neg (by omega), if_pos (by omega), if_neg (by omega), show (21 + 2 * i - 20) / 2 = i by omega]
    · split
      · rename_i h
        obtain ⟨cell, h1, -⟩ := (hE.1 a h).2.1
        exact (Array.getElem?_eq_some_iff.mp h1).1
      · split
        · exact (Array.getElem?_eq_some_iff.mp x3).1
        · split
          · exact (Array.getElem?_eq_some_iff.mp u1).1
          · split
            · exact (Array.getElem?_eq_some_iff.mp w1).1
            · split
              · split
                · exact sltK _ (by omega)
                · exact sltV _ (by omega)
              · exact hbl
  obtain ⟨D, d1, d2, d3, d4, d5, d6, k1, k2, k3, k4, k5, k6, k7, hB, hlt⟩ := hD
  have hAD : aA D = (fun q => s.heap.size ≤ q) := by
    unfold aA
    rw [hB]
  have hall0 : ∀ w ∈ lw_all, w.before #[] s = true := fun w hw => word_at (State.WarmedH.refl s) (lw_self w hw).2 (hall w hw)
  have hkn : ∀ (t : Nat) (q : vw_C), aCl[t]? = some q → u_Kn s q.1 q.2.1 q.2.2 (dC D t) (dS D t) := fun t q hq => by
    rw [d1 t (by have := (aTl t q hq).2; omega), d6]
    exact (hcl t).1 q hq
  have mu : ∀ a, a < 100 → aMu D a = dK D a := fun a h => aMu_lt h
  have kz : ∀ i, i < 13 → va_Z "TraceWarden$Kind" (aKinds.getD i "") "LTraceWarden$Kind;" (aRh D (.ref i)) (aA D) s s.heap := fun i hi => by
    show va_Z _ _ _ (.ref (aMu D i)) _ _ _
    rw [mu i (by omega), k1 i hi, hAD]
    exact (hE.1 i hi).1
  have hst0 : ∀ q ∈ aTS, Cond.laysStatic q.1 q.2.1 q.2.2 ∈ lw_tbl ∧ Cond.initialized q.1 ∈ lw_all := List.forall_mem_cons.mpr ⟨⟨q645, q77⟩, List.forall_mem_cons.mpr ⟨⟨q647, q77⟩, List.forall_mem_cons.mpr ⟨⟨q501, q87⟩, fun _ h => absurd h List.not_mem_nil⟩⟩⟩
  have hxn : ∀ t, aExT t = true → t < 18 ∧ ∃ q : vw_C, aCl[t]? = some q ∧ q.1 = aXN t := fun t ht => by
    have h18 : t < 18 := by
      unfold aExT at ht
      simp only [Bool.and_eq_true] at ht
      exact Nat.le_of_ble_eq_true ht.2
    have h1 : ∀ t, t < 18 → aExT t = true → ((aCl[t]?).map (fun q : vw_C => q.1)) = some (aXN t) := by decide +kernel
    have h2 := h1 t h18 ht
    obtain ⟨q, hq, he⟩ := Option.map_eq_some_iff.mp h2
    exact ⟨h18, q, hq, he⟩
  refine ⟨D, ⟨hall0, fun q hq => va_Nw.of rfl (hts _ (aNwF_ok q hq)), fun q hq => va_Nw.of rfl (hts _ (aNwM_ok q hq)), ⟨hkn, fun k q h => by cases k <;> cases h⟩, fun t h40 h50 => by rw [d1 t h50]; exact (hcl t).2 h40 h50,
    List.forall_mem_cons.mpr ⟨hts _ q168, List.forall_mem_cons.mpr ⟨hts _ q170, List.forall_mem_cons.mpr ⟨hts _ q228, List.forall_mem_cons.mpr ⟨hts _ q287, List.forall_mem_cons.mpr ⟨hts _ q885, fun _ h => absurd h List.not_mem_nil⟩⟩⟩⟩⟩,
    List.forall_mem_cons.mpr ⟨va_Nw.of rfl (hts _ q1659), List.forall_mem_cons.mpr ⟨va_Nw.of rfl (hts _ q1660), List.forall_mem_cons.mpr ⟨va_Nw.of rfl (hts _ q1662), fun _ h => absurd h List.not_mem_nil⟩⟩⟩,
    List.forall_mem_cons.mpr ⟨kz 1 (by decide), List.forall_mem_cons.mpr ⟨kz 4 (by decide), List.forall_mem_cons.mpr ⟨kz 5 (by decide), List.forall_mem_cons.mpr ⟨kz 10 (by decide), List.forall_mem_cons.mpr ⟨kz 6 (by decide), List.forall_mem_cons.mpr ⟨kz 12 (by decide), List.forall_mem_cons.mpr ⟨kz 2 (by decide), List.forall_mem_cons.mpr ⟨kz 3 (by decide), List.forall_mem_cons.mpr ⟨kz 8 (by decide), List.forall_mem_cons.mpr ⟨kz 9 (by decide), List.forall_mem_cons.mpr ⟨kz 11 (by decide), List.forall_mem_cons.mpr ⟨kz 0 (by decide), List.forall_mem_cons.mpr ⟨kz 7 (by decide),
      List.forall_mem_cons.mpr ⟨?_, List.forall_mem_cons.mpr ⟨?_, List.forall_mem_cons.mpr ⟨?_, List.forall_mem_cons.mpr ⟨?_, fun _ h => absurd h List.not_mem_nil⟩⟩⟩⟩⟩⟩⟩⟩⟩⟩⟩⟩⟩⟩⟩⟩⟩,
    List.forall_mem_cons.mpr ⟨?_, List.forall_mem_cons.mpr ⟨?_, List.forall_mem_cons.mpr ⟨?_, List.forall_mem_cons.mpr ⟨?_, List.forall_mem_cons.mpr ⟨?_, List.forall_mem_cons.mpr ⟨?_, List.forall_mem_cons.mpr ⟨?_, fun _ h => absurd h List.not_mem_nil⟩⟩⟩⟩⟩⟩⟩,
    fun a h1 h2 => by rw [hB]; exact hlt a h1 h2, fun a b ha hb e => hE.2 a b ha hb (by rwa [k1 a ha, k1 b hb] at e),
    ⟨fun i hi => ?_, fun i j hi hj e => hE.2 i j hi hj (by rwa [k1 i hi, k1 j hj] at e)⟩, fun q hq => ⟨?_, ?_⟩, fun x hx => va_Nw.of rfl (hts _ hx), fun C T hx => va_Nw.of rfl (hts _ hx), fun t t' ht ht' hne => ?_, by rw [k5]; exact hMi, st_selX hall hts, fun t h50 h60 => ?_⟩, ?_, by rw [mu 40 (by decide)]; exact k7, hB⟩
  · show va_Z _ _ _ (.ref (aMu D 15)) _ _ _
    rw [mu 15 (by decide), k4, hAD]
    exact va_Zof (hts _ q571) (hall _ q100) e15 hA
  · show va_Z _ _ _ (.ref (aMu D 14)) _ _ _
    rw [mu 14 (by decide), k3, hAD]
    exact va_Zof (hts _ q573) (hall _ q100) e14 hA
  · rw [hAD]
    exact va_Zof (hts _ q415) (hall _ q95) (va_eqt (hF _ m5)) hA
  · show va_Z _ _ _ (.ref (aMu D 13)) _ _ _
    rw [mu 13 (by decide), k2, hAD]
    exact va_Zof (hts _ q128) (hall _ q69) e13 hA
  · rw [show dK D 20 = adK 0 from (k6 0 (by decide)).1]
    exact vk_R.of (hts _ (aStr_ok _ (List.mem_of_getElem? (i := 0) rfl))) (hSe 0 (by decide))
  · rw [show dK D 22 = adK 1 from (k6 1 (by decide)).1]
    exact vk_R.of (hts _ (aStr_ok _ (List.mem_of_getElem? (i := 1) rfl))) (hSe 1 (by decide))
  · rw [show dK D 24 = adK 2 from (k6 2 (by decide)).1]
    exact vk_R.of (hts _ (aStr_ok _ (List.mem_of_getElem? (i := 2) rfl))) (hSe 2 (by decide))
  · rw [show dK D 26 = adK 3 from (k6 3 (by decide)).1]
    exact vk_R.of (hts _ (aStr_ok _ (List.mem_of_getElem? (i := 3) rfl))) (hSe 3 (by decide))
  · rw [show dK D 28 = adK 4 from (k6 4 (by decide)).1]
    exact vk_R.of (hts _ (aStr_ok _ (List.mem_of_getElem? (i := 4) rfl))) (hSe 4 (by decide))
  · rw [show dK D 30 = adK 5 from (k6 5 (by decide)).1]
    exact vk_R.of (hts _ (aStr_ok _ (List.mem_of_getElem? (i := 5) rfl))) (hSe 5 (by decide))
  · rw [show dK D 32 = adK 6 from (k6 6 (by decide)).1]
    exact vk_R.of (hts _ (aStr_ok _ (List.mem_of_getElem? (i := 6) rfl))) (hSe 6 (by decide))
  · rw [k1 i hi, hAD]
    exact hE.1 i hi
  · obtain ⟨c, k, i, f, a, cell, hc, hi, hst, ha, hcell, hs, hcls, hlt, hty⟩ := Cond.laysStatic_spec (hts _ (hst0 q hq).1)
    exact Cond.laysStatic_of hc hi hst ha hcell hs hcls hlt hty
  · rw [hAD]
    exact va_Zqof (hts _ (hst0 q hq).1) (hall _ (hst0 q hq).2) (hF _ (st_ref q hq)) hA
  · obtain ⟨a1, q, a2, a3⟩ := hxn t ht
    obtain ⟨b1, q', b2, b3⟩ := hxn t' ht'
    have f1 := (hkn t q a2).2.1
    have f2 := (hkn t' q' b2).2.1
    rw [a3] at f1
    rw [b3] at f2
    have hv := Cond.holds_not_iff.mp (hF _ (st_nca t a1 t' b1 ht ht' hne))
    simp only [Cond.value, f1, f2] at hv
    exact Option.some.inj hv
  · have : t = 50 ∨ t = 51 ∨ t = 52 ∨ ∃ i, i < 7 ∧ t = 53 + i := by
      by_cases h : 53 ≤ t
      · exact Or.inr (Or.inr (Or.inr ⟨t - 53, by omega, by omega⟩))
      · omega
    have key : ∀ (cell : Cell) (ty : FieldType), s.isArrayOf cell ty → aArrK s cell.cls ty := fun cell ty h => by
      obtain ⟨-, kA, h1, comp, h2⟩ := h
      exact ⟨kA, comp, h1, h2⟩
    rcases this with rfl | rfl | rfl | ⟨i, hi, rfl⟩
    · rw [d2]
      exact key _ _ hsA
    · rw [d3]
      exact key _ _ u2
    · rw [d4]
      exact key _ _ w2
    · rw [d5 i hi]
      have : aElF (53 + i) = .byte := by
        have : ∀ i, i < 7 → aElF (53 + i) = .byte := by decide
        exact this i hi
      rw [this]
      exact key _ _ (hvc i hi).2.1
  · have arr : ∀ (a t n : Nat) (cell : Cell) (f : Nat → Int32), a < 100 → 40 ≤ t → s.heap[dK D a]? = some cell → dC D t = cell.cls → cell.vm ≠ .unknown → cell.vm.isStatics = false → n ≤ cell.slots.size → cell.slots.size.toInt32 = nI n → (∀ k, k < n → cell.slots[k]? = some (.int (f k))) → (∀ k, k < n → aRh D (aVal (aZ0 L xs) t a k) = .int (f k)) →
        (100 ≤ a → a - 100 < gZ (aZ0 L xs)) ∧ ∃ cell : Cell, s.heap[aMu D a]? = some cell ∧ aOkC D t n a cell ∧ ∀ k, k < aNp t n → cell.slots[aSl D t k]? = some (aRh D (aVal (aZ0 L xs) t a k)) := fun a t n cell f h1 h2 h3 h4 h5 h6 h7 h8 h9 h10 => by
      refine ⟨fun h => by omega, cell, by rw [mu a h1]; exact h3, ⟨h4.symm, fun h => by omega, h5, h6, fun _ => ⟨h7, h8, fun h => by omega⟩⟩, fun k hk => ?_⟩
      rw [show aNp t n = n from if_neg (by omega)] at hk
      rw [show aSl D t k = k from if_neg (by omega), h9 k hk, h10 k hk]
    have str : ∀ i, i < 7 → (∀ k, aVal (aZ0 L xs) 12 (20 + 2 * i) k = (if k = 0 then .ref (21 + 2 * i) else if k = 1 then .int 0 else aVal (aZ0 L xs) 12 (20 + 2 * i) k)) → (100 ≤ 20 + 2 * i → 20 + 2 * i - 100 < gZ (aZ0 L xs)) ∧ ∃ cell : Cell, s.heap[aMu D (20 + 2 * i)]? = some cell ∧ aOkC D 12 0 (20 + 2 * i) cell ∧ ∀ k, k < aNp 12 0 → cell.slots[aSl D 12 k]? = some (aRh D (aVal (aZ0 L xs) 12 (20 + 2 * i) k)) := fun i hi hv => by
      obtain ⟨⟨cell, g1, g2, g3, g4⟩, ⟨cf, k, fi, f, cell2, o1, o2, o3, o4, o5, -⟩, ⟨cf', k', fi', f', cell3, p1, p2, p3, p4, p5, -⟩, -⟩ := hSt.1 i hi
      cases g1.symm.trans o3
      cases g1.symm.trans p3
      have hq : aCl[12]? = some (RJ18, TJ18, 2) := rfl
      obtain ⟨hsl, hfc, -⟩ := hkn 12 _ hq
      refine ⟨fun h => by omega, cell, by rw [mu _ (by omega), (k6 i hi).1]; exact g1, ⟨Option.some.inj (g3.symm.trans hfc), fun h => by omega, o4, g2, fun h => by omega⟩, fun k9 hk9 => ?_⟩
      have hk9 : k9 < 2 := hk9
      rw [hv k9]
      have : k9 = 0 ∨ k9 = 1 := by omega
      rcases this with rfl | rfl
      · obtain ⟨cf9, kf9, fi9, fd9, r1, r2⟩ := hsl 0 (by decide)
        cases r1.symm.trans p1
        rw [show aSl D 12 0 = dS D 12 0 from if_pos (by decide), ← r2, p5, if_pos rfl]
        show some (Value.ref (adV i)) = some (.ref (aMu D (21 + 2 * i)))
        rw [mu _ (by omega), (k6 i hi).2]
      · obtain ⟨cf9, kf9, fi9, fd9, r1, r2⟩ := hsl 1 (by decide)
        cases r1.symm.trans o1
        rw [show aSl D 12 1 = dS D 12 1 from if_pos (by decide), ← r2, o5]
        rfl
    have byt : ∀ i, i < 7 → ∀ n, n = sLn.getD i 0 → (∀ k, k < n → aRh D (aVal (aZ0 L xs) (53 + i) (21 + 2 * i) k) = .int ((sBy.getD i []).getD k 0)) → (100 ≤ 21 + 2 * i → 21 + 2 * i - 100 < gZ (aZ0 L xs)) ∧ ∃ cell : Cell, s.heap[aMu D (21 + 2 * i)]? = some cell ∧ aOkC D (53 + i) n (21 + 2 * i) cell ∧ ∀ k, k < aNp (53 + i) n → cell.slots[aSl D (53 + i) k]? = some (aRh D (aVal (aZ0 L xs) (53 + i) (21 + 2 * i) k)) := fun i hi n hn hv => by
      subst hn
      obtain ⟨g1, g2, g3, g4, g5, g6, -⟩ := hvc i hi
      exact arr _ _ _ (vc i) (fun k => (sBy.getD i []).getD k 0) (by omega) (by omega) (by rw [(k6 i hi).2]; exact g1) (d5 i hi) g3 (st_nst g2.1) g4 g5 g6 hv
    refine ⟨by rw [hB]; rfl, fun a h1 h2 => by rw [hB]; exact hlt a h1 (fun e => by subst e; exact absurd h2 (by show ¬ (99 < 60); decide)), fun a t n hT ht => ?_⟩
    have hT : aT0 L a = (t, n) := hT
    unfold aT0 at hT
    split at hT
    all_goals cases hT
    · exact arr 13 49 0 _ (fun _ => 0) (by decide) (by decide) (by rw [k2]; exact y1) (by
        rw [d1 49 (by decide)]
        have h1 := ((hcl 49).2 (by decide) (by decide)).1
        exact (Option.some.inj (h1.symm.trans x2)).trans x6.symm) y3 (st_nst y2.1) (Nat.zero_le _) y5 (fun k hk => by omega) (fun k hk => by omega)
    · exact arr 14 51 100 ce14 (fun k => nI (48 + k / 10)) (by decide) (by decide) (by rw [k3]; exact u1) d3 u3 (st_nst u2.1) u4 u5 u6 (fun k hk => rfl)
    · exact arr 15 52 100 ce15 (fun k => nI (48 + k % 10)) (by decide) (by decide) (by rw [k4]; exact w1) d4 w3 (st_nst w2.1) w4 w5 w6 (fun k hk => rfl)
    · exact str 0 (by decide) (fun k => by match k with | 0 => rfl | 1 => rfl | k + 2 => rw [if_neg (by omega), if_neg (by omega)])
    · exact byt 0 (by decide) 0 rfl (fun k hk => rfl)
    · exact str 1 (by decide) (fun k => by match k with | 0 => rfl | 1 => rfl | k + 2 => rw [if_neg (by omega), if_neg (by omega)])
    · exact byt 1 (by decide) 4 rfl (fun k hk => rfl)
    · exact str 2 (by decide) (fun k => by match k with | 0 => rfl | 1 => rfl | k + 2 => rw [if_neg (by omega), if_neg (by omega)])
    · exact byt 2 (by decide) 6 rfl (fun k hk => rfl)
    · exact str 3 (by decide) (fun k => by match k with | 0 => rfl | 1 => rfl | k + 2 => rw [if_neg (by omega), if_neg (by omega)])
    · exact byt 3 (by decide) 7 rfl (fun k hk => rfl)
    · exact str 4 (by decide) (fun k => by match k with | 0 => rfl | 1 => rfl | k + 2 => rw [if_neg (by omega), if_neg (by omega)])
    · exact byt 4 (by decide) 4 rfl (fun k hk => rfl)
    · exact str 5 (by decide) (fun k => by match k with | 0 => rfl | 1 => rfl | k + 2 => rw [if_neg (by omega), if_neg (by omega)])
    · exact byt 5 (by decide) 4 rfl (fun k hk => rfl)
    · exact str 6 (by decide) (fun k => by match k with | 0 => rfl | 1 => rfl | k + 2 => rw [if_neg (by omega), if_neg (by omega)])
    · exact byt 6 (by decide) 4 rfl (fun k hk => rfl)
    · exact arr 40 50 L scr xs (by decide) (by decide) (by rw [k7]; exact hscr) d2 hsk (st_nst hsA.1) (Nat.le_of_eq hss.symm) (by rw [hss]; rfl) hsv (fun k hk => rfl)
    · omega
