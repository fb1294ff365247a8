/-! SOUNDNESS, 7: references, classes, constants, new cells -/
section OBJ2
variable {p : Program} {l : Launch} {e : Env} {R : Room} {s : State} {m : MethodId} {args : Array Value} {below : List Frame} {meth : Method} {c : Code} {D : aD} {mm : aMi} {z0 zE : aSt} {Q : State → Prop}
variable {pc pc' : Nat} {L : List (Option Value)} {S S' : List Value} {z : aSt} {cf : aCf} {own : Nat} {ini : Bool}
theorem a_asr_inv (h : a_asr pc' L S z = some cf) : (∃ b i a S' ta n tv nv, S = .ref b :: .int i :: .ref a :: S' ∧ gT z a = (ta, n) ∧ gT z b = (tv, nv) ∧ aAst ta tv = true ∧ 100 ≤ a ∧ ¬ (i < 0 ∨ n ≤ i.toNatClampNeg) ∧ cf = (pc', L, S', sR z a i.toNatClampNeg (some b))) ∨
    (∃ i a S' ta n, S = .null :: .int i :: .ref a :: S' ∧ gT z a = (ta, n) ∧ 45 ≤ ta ∧ ta < 50 ∧ 100 ≤ a ∧ ¬ (i < 0 ∨ n ≤ i.toNatClampNeg) ∧ cf = (pc', L, S', sR z a i.toNatClampNeg none)) := by
  unfold a_asr at h
  split at h
  · rename_i v i a S9
    split at h
    · rename_i b
      split at h
      · rename_i hc
        split at h
        · cases h
        · rename_i hb
          exact Or.inl ⟨b, i, a, S9, _, _, _, _, rfl, rfl, rfl, hc.1, hc.2, hb, (Option.some.inj h).symm⟩
      · cases h
    · split at h
      · rename_i hc
        split at h
        · cases h
        · rename_i hb
          have h1 := hc.1
          simp only [Bool.and_eq_true] at h1
          exact Or.inr ⟨i, a, S9, _, _, rfl, rfl, Nat.le_of_ble_eq_true h1.1, Nat.le_of_ble_eq_true h1.2, hc.2, hb, (Option.some.inj h).symm⟩
      · cases h
    · cases h
  · cases h
theorem aVal_ref {z : aSt} {t : Nat} (h : ∃ C, aElF t = .object C) (h40 : 40 ≤ t) (a k : Nat) : aVal z t a k = va_rf (gR z a k) := by
  obtain ⟨C, hC⟩ := h
  unfold aVal aTy
  rw [if_neg (by omega), hC]
theorem sx_aastore (C : aCx p s m meth c D mm) (hi : decode (mBytes mm) pc = .ok (.aastore, 1)) (h : aStep own ini .aastore pc L S z = some cf) (k : aWW p l e R s m args below meth c D mm z0 zE Q cf.1 cf.2.1 cf.2.2.1 cf.2.2.2) : aWW p l e R s m args below meth c D mm z0 zE Q pc L S z := by
  have K := C.2.2.2.2.2.2.1
  rcases a_asr_inv h with ⟨b, i, a, S9, ta, n, tv, nv, rfl, hT, hTv, hA, ha, hb, rfl⟩ | ⟨i, a, S9, ta, n, rfl, hT, h45, h50, ha, hb, rfl⟩
  · obtain ⟨q0, hq, h40, h50, hel⟩ := aAst_inv hA
    have hnn : ¬ i < 0 ∧ i.toNatClampNeg < n := ⟨fun z => hb (Or.inl z), by have := fun z => hb (Or.inr z); omega⟩
    refine ww_w (z' := sR z a i.toNatClampNeg (some b)) rfl rfl (fun H ls locs cells slots hR hL hS q => ?_) k
    obtain ⟨cell, q1, q2, q3, q4, q5, q6, q7, q8⟩ := aArr_at K hR hT (by omega) (by omega)
    obtain ⟨cv, v1, v2, v3, v4, v5, v6, -⟩ := aObj_at hR hTv hq
    obtain ⟨-, hfc, kC, hkC, hkind⟩ := aKn K hq
    obtain ⟨hA1, kA, comp, hA2, hA3, hA4⟩ := K.2.2.2.2.1 ta h40 h50
    have hco : ∃ C0, aElF ta = .object C0 ∧ s.vm.assignable cv.cls comp = true := by
      rcases hel with h | ⟨h, h2⟩
      · refine ⟨_, h, ?_⟩
        have h5 := hA4 _ h
        rw [v2, show comp = dC D tv from Option.some.inj (h5.symm.trans hfc)]
        exact va_asg _ _
      · refine ⟨_, h, ?_⟩
        obtain ⟨c0, t0, f1, f2, f3⟩ := Cond.castable_spec (va_Nw.use (A := args) rfl (K.2.2.2.2.2.2.1 _ h2))
        have h5 := hA4 _ h
        rw [v2, show comp = t0 from Option.some.inj (h5.symm.trans f2), show dC D tv = c0 from Option.some.inj (hfc.symm.trans f1)]
        exact f3
    obtain ⟨C0, hC0, hasg⟩ := hco
    obtain ⟨kcomp, hkcomp⟩ := Vm.classAt_of_findClass (hA4 _ hC0)
    refine W.aast C.1 C.2.1 q1 (fun x hx => by rw [hx] at q4; cases q4) q3 (by rw [q7]; exact hA2) hA3 (by rw [hC0]; rfl) hkcomp ⟨hnn.1, Nat.lt_of_lt_of_le hnn.2 q5.1⟩ v1 (fun x hx => by rw [hx] at v5; cases v5) (by rw [v2]; exact hkC) hasg rfl rfl hi (fun H' e1 e2 e3 => ?_)
    exact q H' _ (hR.put ha hT (by omega) (by rw [show aNp ta n = n from if_neg (by omega)]; exact hnn.2) q1 (sl_inj h40) (by rw [show aSl D ta i.toNatClampNeg = i.toNatClampNeg from if_neg (by omega)]; exact e1) e2 e3 rfl rfl (by rw [aVal_ref ⟨_, hC0⟩ h40, show gR (sR z a i.toNatClampNeg (some b)) a i.toNatClampNeg = some b from a_up_eq]; rfl) (fun t b j hbj => aVal_sR hbj)) (va_S_put hS ha e2 e3)
  · have hnn : ¬ i < 0 ∧ i.toNatClampNeg < n := ⟨fun z => hb (Or.inl z), by have := fun z => hb (Or.inr z); omega⟩
    obtain ⟨C0, hC0, -, h40, -⟩ := aElF_ref (show ta ∈ [45, 46, 47, 48, 49] by
      simp only [List.mem_cons, List.not_mem_nil, or_false]
      omega)
    refine ww_w (z' := sR z a i.toNatClampNeg none) rfl rfl (fun H ls locs cells slots hR hL hS q => ?_) k
    obtain ⟨cell, q1, q2, q3, q4, q5, q6, q7, q8⟩ := aArr_at K hR hT (by omega) (by omega)
    rw [hC0] at q2
    refine va_WaastN C.1 C.2.1 q1 q2 q3 (a_inb hb q5.1) rfl rfl hi (fun H' e1 e2 e3 => ?_)
    exact q H' _ (hR.put ha hT (by omega) (by rw [show aNp ta n = n from if_neg (by omega)]; exact hnn.2) q1 (sl_inj h40) (by rw [show aSl D ta i.toNatClampNeg = i.toNatClampNeg from if_neg (by omega)]; exact e1) e2 e3 rfl rfl (by rw [aVal_ref ⟨_, hC0⟩ h40, show gR (sR z a i.toNatClampNeg none) a i.toNatClampNeg = none from a_up_eq]; rfl) (fun t b j hbj => aVal_sR hbj)) (va_S_put hS ha e2 e3)
theorem a_cast_inv {idx : Nat} (h : a_cast own idx pc' L S z = some cf) : ∃ a S', S = .ref a :: S' ∧ aCst own idx = some (gT z a).1 ∧ cf = (pc', L, .ref a :: S', z) := by
  unfold a_cast at h
  split at h
  · rename_i a S9
    split at h
    · rename_i hc
      exact ⟨a, S9, rfl, hc, (Option.some.inj h).symm⟩
    · cases h
  · cases h
theorem sx_checkcast {idx : Nat} (C : aCx p s m meth c D mm) (hi : decode (mBytes mm) pc = .ok (.checkcast idx, 3)) (h : aStep (mOwn mm) ini (.checkcast idx) pc L S z = some cf) (k : aWW p l e R s m args below meth c D mm z0 zE Q cf.1 cf.2.1 cf.2.2.1 cf.2.2.2) : aWW p l e R s m args below meth c D mm z0 zE Q pc L S z := by
  have K := C.2.2.2.2.2.2.1
  obtain ⟨a, S9, rfl, hc, rfl⟩ := a_cast_inv h
  obtain ⟨q0, hq, hl⟩ := aCst_ok hc
  refine ww_r (fun H ls locs cells slots hR hL hS q => ?_) k
  obtain ⟨cell, q1, q2, q3, q4, q5, q6, -⟩ := aObj_at hR (n := (gT z a).2) rfl hq
  exact va_castE C.1 C.2.1 C.2.2.2.2.2.1 (K.word hl args) ⟨cell, q1, q5, by rw [q2]; exact (aKn K hq).2.1⟩ hi q
theorem a_ref_inv {v : Value} {x : Option Nat} (h : a_ref v = some x) : v = va_rf x := by
  cases v <;> first | (cases h; rfl) | cases h
theorem a_cmp_ok (K : aKV D s) {x y : Option Nat} (h : a_cmp x y = true) : x.map (aMu D) = y.map (aMu D) ↔ x = y := by
  refine ⟨fun e => ?_, fun e => by rw [e]⟩
  match x, y, h, e with
  | none, none, _, _ => rfl
  | none, some b, _, e => cases e
  | some a, none, _, e => cases e
  | some a, some b, h, e =>
    have e : aMu D a = aMu D b := Option.some.inj e
    have hk := K.2.2.2.2.2.2.2.2.2.1
    have h : (a == b || (Nat.ble 100 a && !(Nat.beq b 16)) || (Nat.ble 100 b && !(Nat.beq a 16)) || (Nat.blt a 13 && Nat.blt b 13)) = true := h
    simp only [Bool.or_eq_true, Bool.and_eq_true, Bool.not_eq_true'] at h
    rcases h with ((h | h) | h) | h
    · rw [eq_of_beq h]
    · by_cases hab : a = b
      · rw [hab]
      · exact absurd e.symm (aMu_ne (fun h9 => hk b h9 (fun e9 => by rw [e9] at h; exact absurd h.2 (by decide))) (Nat.le_of_ble_eq_true h.1) (fun e => hab e.symm))
    · by_cases hab : a = b
      · rw [hab]
      · exact absurd e (aMu_ne (fun h9 => hk a h9 (fun e9 => by rw [e9] at h; exact absurd h.2 (by decide))) (Nat.le_of_ble_eq_true h.1) hab)
    · have h1 : a < 13 := Nat.le_of_ble_eq_true h.1
      have h2 : b < 13 := Nat.le_of_ble_eq_true h.2
      rw [aMu_lt (by omega), aMu_lt (by omega)] at e
      rw [K.2.2.2.2.2.2.2.2.2.2.1 a b h1 h2 e]
theorem a_ifa_inv {eq : Bool} {off : Int} (h : a_ifa eq pc off L S z = some cf) : ∃ x y S', S = va_rf y :: va_rf x :: S' ∧ a_cmp x y = true ∧ ∃ t : Nat, (pc : Int) + off = (t : Int) ∧ ((eq = true ∧ ((x = y ∧ cf = (t, L, S', z)) ∨ (¬ x = y ∧ cf = (pc + 3, L, S', z)))) ∨ (eq = false ∧ ((¬ x = y ∧ cf = (t, L, S', z)) ∨ (x = y ∧ cf = (pc + 3, L, S', z))))) := by
  unfold a_ifa at h
  split at h
  · rename_i v w S9
    split at h
    · rename_i y x h1 h2
      split at h
      · rename_i hc
        refine ⟨x, y, S9, by rw [a_ref_inv h1, a_ref_inv h2], hc, ?_⟩
        split at h
        · rename_i he
          obtain ⟨t, ht, q⟩ := a_br_inv h
          exact ⟨t, ht, Or.inl ⟨he, q⟩⟩
        · rename_i he
          obtain ⟨t, ht, q⟩ := a_br_inv h
          refine ⟨t, ht, Or.inr ⟨by cases eq <;> first | rfl | exact absurd rfl he, ?_⟩⟩
          rcases q with q | ⟨q1, q2⟩
          · exact Or.inl q
          · exact Or.inr ⟨Classical.not_not.mp q1, q2⟩
      · cases h
    · cases h
  · cases h
theorem sx_acmp_eq {off : Int} (C : aCx p s m meth c D mm) (hi : decode (mBytes mm) pc = .ok (.if_acmp .eq off, 3)) (h : aStep own ini (.if_acmp .eq off) pc L S z = some cf) (k : aWW p l e R s m args below meth c D mm z0 zE Q cf.1 cf.2.1 cf.2.2.1 cf.2.2.2) : aWW p l e R s m args below meth c D mm z0 zE Q pc L S z := by
  have K := C.2.2.2.2.2.2.1
  obtain ⟨x, y, S9, rfl, hc, t, ht, ⟨-, q9⟩ | ⟨h9, -⟩⟩ := a_ifa_inv h
  · have hE := a_cmp_ok K hc
    have hm : ∀ S9 : List Value, (va_rf y :: va_rf x :: S9).map (aRh D) = va_rf (y.map (aMu D)) :: va_rf (x.map (aMu D)) :: S9.map (aRh D) := fun S9 => by
      rw [List.map_cons, List.map_cons, aRh_rf, aRh_rf]
    rcases q9 with ⟨q9, rfl⟩ | ⟨q9, rfl⟩
    · exact ww_p (fun H ls locs cells slots hL q => by rw [hm]; exact lv_acmp_eq C.1 C.2.1 hi ht (fun _ => q) (fun z => absurd (hE.mpr q9) z)) k
    · exact ww_p (fun H ls locs cells slots hL q => by rw [hm]; exact lv_acmp_eq C.1 C.2.1 hi ht (fun z => absurd (hE.mp z) q9) (fun _ => q)) k
  · cases h9
theorem sx_acmp_ne {off : Int} (C : aCx p s m meth c D mm) (hi : decode (mBytes mm) pc = .ok (.if_acmp .ne off, 3)) (h : aStep own ini (.if_acmp .ne off) pc L S z = some cf) (k : aWW p l e R s m args below meth c D mm z0 zE Q cf.1 cf.2.1 cf.2.2.1 cf.2.2.2) : aWW p l e R s m args below meth c D mm z0 zE Q pc L S z := by
  have K := C.2.2.2.2.2.2.1
  obtain ⟨x, y, S9, rfl, hc, t, ht, ⟨h9, -⟩ | ⟨-, q9⟩⟩ := a_ifa_inv h
  · cases h9
  · have hE := a_cmp_ok K hc
    have hm : ∀ S9 : List Value, (va_rf y :: va_rf x :: S9).map (aRh D) = va_rf (y.map (aMu D)) :: va_rf (x.map (aMu D)) :: S9.map (aRh D) := fun S9 => by
      rw [List.map_cons, List.map_cons, aRh_rf, aRh_rf]
    rcases q9 with ⟨q9, rfl⟩ | ⟨q9, rfl⟩
    · exact ww_p (fun H ls locs cells slots hL q => by rw [hm]; exact lv_acmp_ne C.1 C.2.1 hi ht (fun _ => q) (fun z => absurd (hE.mp z) q9)) k
    · exact ww_p (fun H ls locs cells slots hL q => by rw [hm]; exact lv_acmp_ne C.1 C.2.1 hi ht (fun z => absurd (hE.mpr q9) z) (fun _ => q)) k
theorem a_cst_inv {o : Option Value} (h : a_cst o pc' L S z = some cf) : ∃ v, o = some v ∧ cf = (pc', L, v :: S, z) := by
  unfold a_cst at h
  split at h
  · exact ⟨_, rfl, (Option.some.inj h).symm⟩
  · cases h
theorem sx_getstatic {idx : Nat} (C : aCx p s m meth c D mm) (hi : decode (mBytes mm) pc = .ok (.getstatic idx, 3)) (h : aStep (mOwn mm) ini (.getstatic idx) pc L S z = some cf) (k : aWW p l e R s m args below meth c D mm z0 zE Q cf.1 cf.2.1 cf.2.2.1 cf.2.2.2) : aWW p l e R s m args below meth c D mm z0 zE Q pc L S z := by
  have K := C.2.2.2.2.2.2.1
  obtain ⟨v, hv, rfl⟩ := a_cst_inv h
  obtain ⟨q0, h1, rfl, h3⟩ := aSta_ok hv
  exact ww_r (fun H ls locs cells slots hR hL hS q => va_gets C.1 C.2.1 (K.2.2.2.2.2.2.2.1 q0 h1) hS C.2.2.2.2.2.1 (K.word h3 args) (fun x h => h) hi q) k
theorem sx_ldc2_w {idx : Nat} (C : aCx p s m meth c D mm) (hi : decode (mBytes mm) pc = .ok (.ldc2_w idx, 3)) (h : aStep (mOwn mm) ini (.ldc2_w idx) pc L S z = some cf) (k : aWW p l e R s m args below meth c D mm z0 zE Q cf.1 cf.2.1 cf.2.2.1 cf.2.2.2) : aWW p l e R s m args below meth c D mm z0 zE Q pc L S z := by
  have K := C.2.2.2.2.2.2.1
  obtain ⟨v, hv, rfl⟩ := a_cst_inv h
  obtain ⟨x, hx, rfl⟩ := Option.map_eq_some_iff.mp hv
  exact ww_p (fun H ls locs cells slots hL q => lv_ldc2 C.1 C.2.1 C.2.2.2.2.2.1 (K.word (aLd2_ok hx) args) hi q) k
theorem sx_ldc {idx : Nat} (C : aCx p s m meth c D mm) (hi : decode (mBytes mm) pc = .ok (.ldc idx, 2)) (h : aStep (mOwn mm) ini (.ldc idx) pc L S z = some cf) (k : aWW p l e R s m args below meth c D mm z0 zE Q cf.1 cf.2.1 cf.2.2.1 cf.2.2.2) : aWW p l e R s m args below meth c D mm z0 zE Q pc L S z := by
  have K := C.2.2.2.2.2.2.1
  obtain ⟨v, hv, rfl⟩ := a_cst_inv h
  rcases aLdc_ok hv with ⟨x, rfl, hx⟩ | ⟨tx, a, rfl, hx⟩ | ⟨rfl, hx⟩
  · exact ww_p (fun H ls locs cells slots hL q => lv_ldc C.1 C.2.1 C.2.2.2.2.2.1 (K.word hx args) hi q) k
  · have ha : a < 100 := by
      have : ∀ q ∈ aStr, q.2.2.2 < 100 := by decide +kernel
      exact this _ hx
    refine ww_p (fun H ls locs cells slots hL q => va_ldcS C.1 C.2.1 C.2.2.2.2.2.1 (K.2.2.2.2.2.2.2.2.1 _ hx) hi ?_) k
    rw [← aMu_lt (D := D) ha]
    exact q
  · exact ww_p (fun H ls locs cells slots hL q => va_ldcM C.1 C.2.1 C.2.2.2.2.2.1 (K.word hx args) K.2.2.2.2.2.2.2.2.2.2.2.2.2.2.2.2.1 hi (by rw [← aMu_lt (D := D) (show 16 < 100 by decide)]; exact q)) k
/-- a new cell -/
theorem ww_n {t n sl : Nat} (h : ∀ (H : Heap) (ls : Array Slot) (locs : List Loc), aRep D z H → aLoc D L ls → va_S (aA D) s.heap H locs → gZ z0 ≤ gZ z → gS z0 ≤ gS z → gZ z - gZ z0 + 1 ≤ gZ zE - gZ z0 → gS z - gS z0 + sl ≤ gS zE - gS z0 →
      (∀ (H' : Heap), aRep D (aNew z t n sl) H' → va_S (aA D) s.heap H' locs → W p l e R s m args below meth c H' locs (gZ z - gZ z0 + 1) (gS z - gS z0 + sl) Q (F0 m pc' ls (S'.map (aRh D)))) → W p l e R s m args below meth c H locs (gZ z - gZ z0) (gS z - gS z0) Q (F0 m pc ls (S.map (aRh D))))
    (k : aWW p l e R s m args below meth c D mm z0 zE Q pc' L S' (aNew z t n sl)) : aWW p l e R s m args below meth c D mm z0 zE Q pc L S z := by
  have e1 : gZ (aNew z t n sl) = gZ z + 1 := rfl
  have e2 : gS (aNew z t n sl) = gS z + sl := rfl
  have k1 := k.1
  have k2 := k.2.1
  rw [e1] at k1
  rw [e2] at k2
  refine ⟨by omega, by omega, fun H ls locs hR hL hl hS h1 h2 => h H ls locs hR hL hS h1 h2 (by omega) (by omega) (fun H' hR' hS' => ?_)⟩
  have := k.2.2 H' ls locs hR' hL hl hS' (by omega) (by omega)
  rw [e1, e2, show gZ z + 1 - gZ z0 = gZ z - gZ z0 + 1 by omega, show gS z + sl - gS z0 = gS z - gS z0 + sl by omega] at this
  exact this
theorem va_S_new {H0 H H1 : Heap} {locs : List Loc} (h : va_S (aA D) H0 H locs) (z : H1.size = H.size + 1) (oq : ∀ q : Nat, q < H.size → H1[q]? = H[q]?) : va_S (aA D) H0 H1 locs :=
  ⟨by have := h.1; omega, fun q h1 h2 => by rw [oq q (by have := h.1; omega)]; exact h.2.1 q h1 h2, h.2.2⟩
theorem aVal_new {z : aSt} {t n sl k : Nat} : aVal (aNew z t n sl) t (100 + gZ z) k = defaultValue (aTy t k) ∨ aTy t k = .float ∨ aTy t k = .double := by
  have f1 : gI (aNew z t n sl) (100 + gZ z) k = 0 := if_pos rfl
  have f2 : gL (aNew z t n sl) (100 + gZ z) k = 0 := if_pos rfl
  have f3 : gR (aNew z t n sl) (100 + gZ z) k = none := if_pos rfl
  unfold aVal
  rw [f1, f2, f3]
  cases aTy t k <;> first | exact Or.inl rfl | exact Or.inr (Or.inl rfl) | exact Or.inr (Or.inr rfl)
theorem aTy_nofd : ∀ t k, aTy t k ≠ .float ∧ aTy t k ≠ .double := by
  have key : ∀ t, t < 60 → ((aTysF t).all (fun x => x != .float && x != .double) && (aElF t != .float && aElF t != .double)) = true := by decide +kernel
  intro t k
  unfold aTy
  split
  · rename_i h
    have := key t (by omega)
    simp only [Bool.and_eq_true] at this
    by_cases hk : k < (aTysF t).length
    · have h2 := List.all_eq_true.mp this.1 _ (List.getElem_mem hk)
      rw [List.getD_eq_getElem?_getD, List.getElem?_eq_getElem hk]
      simp only [Bool.and_eq_true, bne_iff_ne] at h2
      exact h2
    · rw [List.getD_eq_getElem?_getD, List.getElem?_eq_none (by omega)]
      exact ⟨(fun h => by cases h), (fun h => by cases h)⟩
  · rename_i h
    by_cases h5 : t < 60
    · have := key t h5
      simp only [Bool.and_eq_true, bne_iff_ne] at this
      exact this.2
    · have : aElF t = .int := by
        unfold aElF
        split <;> first | omega | rfl
      rw [this]
      exact ⟨(fun h => by cases h), (fun h => by cases h)⟩
theorem aVal_new' {z : aSt} {t n sl k : Nat} : aVal (aNew z t n sl) t (100 + gZ z) k = defaultValue (aTy t k) := by
  rcases aVal_new (z := z) (t := t) (n := n) (sl := sl) (k := k) with h | h | h
  · exact h
  · exact absurd h (aTy_nofd t k).1
  · exact absurd h (aTy_nofd t k).2
theorem aRh_def (D : aD) (ty : FieldType) : aRh D (defaultValue ty) = defaultValue ty := by cases ty <;> rfl
theorem sx_new {idx : Nat} (C : aCx p s m meth c D mm) (hcel : gZ zE - gZ z0 ≤ R.cells) (hslo : gS zE - gS z0 ≤ R.slots) (hi : decode (mBytes mm) pc = .ok (.new idx, 3)) (h : aStep (mOwn mm) ini (.new idx) pc L S z = some cf) (k : aWW p l e R s m args below meth c D mm z0 zE Q cf.1 cf.2.1 cf.2.2.1 cf.2.2.2) : aWW p l e R s m args below meth c D mm z0 zE Q pc L S z := by
  have K := C.2.2.2.2.2.2.1
  have h : a_nwo (aNwt (mOwn mm) idx) (pc + 3) L S z = some cf := h
  unfold a_nwo at h
  split at h
  · rename_i q9 hq9
    have h : some (pc + 3, L, Value.ref (100 + gZ z) :: S, aNew z q9.1 0 q9.2) = some cf := h
    obtain rfl := Option.some.inj h
    obtain ⟨q0, hq, hl1, hl2, hl3⟩ := aNwt_ok hq9
    obtain ⟨e1, h40⟩ := aTl _ q0 hq
    refine ww_n (fun H ls locs hR hL hS h1 h2 h3 h4 q => ?_) k
    obtain ⟨hSl, hfc, kC0, hkC0, hkind⟩ := aKn K hq
    refine W.newcK C.1 C.2.1 C.2.2.2.2.2.1 (K.word hl1 args) (K.word hl2 args) (K.word hl3 args) rfl hi (by omega) (by omega) hfc rfl (fun H' kC hkC f1 f2 f3 => ?_)
    have hsz : H.size = aMu D (100 + gZ z) := by rw [aMu_ge (by omega), hR.1]; omega
    have hOB := u_born (o := H.size) (H := H') (aTy q9.1) (fun w h => K.word h args) (aNm_ok _ q0 hq).2.1 (aKn K hq) hkC f1 (fun k hk => (aTy_ok _ q0 hq k hk).1)
    have := q H' (hR.new f1 f2 f3 ⟨rfl, fun _ => ⟨rfl, rfl⟩, (fun h => by cases h), rfl, (fun h => by omega)⟩ (fun k hk => by
      obtain ⟨cell, o1, o2, o3, o4⟩ := hOB
      cases f1.symm.trans o1
      rw [show aNp q9.1 0 = q0.2.2 from (if_pos h40).trans e1] at hk
      rw [show aSl D q9.1 k = dS D q9.1 k from if_pos h40, o4 k hk, aVal_new', aRh_def])) (va_S_new hS f2 f3)
    rw [hsz]
    exact this
  · cases h
theorem a_newa_inv {t : Nat} (h : a_newa t pc' L S z = some cf) : ∃ n S', S = .int n :: S' ∧ ¬ n < 0 ∧ n.toNatClampNeg < 65536 ∧ cf = (pc', L, .ref (100 + gZ z) :: S', aNew z t n.toNatClampNeg n.toNatClampNeg) := by
  unfold a_newa at h
  split at h
  · rename_i n S9
    split at h
    · cases h
    · rename_i hc
      exact ⟨n, S9, rfl, fun z => hc (Or.inl z), by have := fun z => hc (Or.inr z); omega, (Option.some.inj h).symm⟩
  · cases h
/-- the new cell of an array -/
theorem aRep.arr {H : Heap} {t n : Nat} (hR : aRep D z H) (h40 : 40 ≤ t) (h50 : t < 50) {cA : ClassId} (hc : cA = dC D t) : aRep D (aNew z t n n) (H.push { cls := cA, slots := Array.replicate n (defaultValue (aElF t)), vm := .none }) := by
  refine hR.new (cell := { cls := cA, slots := Array.replicate n (defaultValue (aElF t)), vm := .none }) (by simp) (by simp) (fun q hq => by rw [Array.getElem?_push_lt hq, Array.getElem?_eq_getElem hq]) ⟨hc, fun _ => ⟨rfl, rfl⟩, (fun h => by cases h), rfl, (fun _ => ⟨by simp, by simp [nI, Nat.toInt32], fun _ => by simp⟩)⟩ (fun k hk => ?_)
  rw [show aNp t n = n from if_neg (by omega)] at hk
  rw [show aSl D t k = k from if_neg (by omega), aVal_new', aRh_def, show aTy t k = aElF t from if_neg (by omega)]
  simp [hk]
theorem sx_newa (C : aCx p s m meth c D mm) (hcel : gZ zE - gZ z0 ≤ R.cells) (hslo : gS zE - gS z0 ≤ R.slots) {t : Nat} {at9 : ArrayType} (hat : newarray.typeOf at9 = aElF t) (hw : Cond.arrayClass (newarray.typeOf at9) ∈ lw_all) (hbt : componentBytes (newarray.typeOf at9) ≤ 8) (h40 : 40 ≤ t) (h50 : t < 50) (hi : decode (mBytes mm) pc = .ok (.newarray at9, 2)) (h : a_newa t (pc + 2) L S z = some cf) (k : aWW p l e R s m args below meth c D mm z0 zE Q cf.1 cf.2.1 cf.2.2.1 cf.2.2.2) : aWW p l e R s m args below meth c D mm z0 zE Q pc L S z := by
  have K := C.2.2.2.2.2.2.1
  obtain ⟨n, S9, rfl, hn, hlt, rfl⟩ := a_newa_inv h
  refine ww_n (fun H ls locs hR hL hS h1 h2 h3 h4 q => ?_) k
  have hby : n.toNatClampNeg * componentBytes (newarray.typeOf at9) ≤ 536870912 := Nat.le_trans (Nat.mul_le_mul (Nat.le_of_lt hlt) hbt) (by decide)
  refine W.newa C.1 C.2.1 (K.word hw args) rfl hi rfl hn hby (by omega) (by omega) (fun cA kA comp f1 f2 f3 => ?_)
  have hsz : H.size = aMu D (100 + gZ z) := by rw [aMu_ge (by omega), hR.1]; omega
  have hc : cA = dC D t := by
    have := (K.2.2.2.2.1 t h40 h50).1
    rw [← hat] at this
    exact Option.some.inj (f1.symm.trans this)
  have hR2 := hR.arr (n := n.toNatClampNeg) h40 h50 hc
  rw [← hat] at hR2
  have := q _ hR2 (va_S_new hS (by simp) (fun q hq => by rw [Array.getElem?_push_lt hq, Array.getElem?_eq_getElem hq]))
  rw [hsz]
  exact this
theorem sx_anewarray {idx : Nat} (C : aCx p s m meth c D mm) (hcel : gZ zE - gZ z0 ≤ R.cells) (hslo : gS zE - gS z0 ≤ R.slots) (hi : decode (mBytes mm) pc = .ok (.anewarray idx, 3)) (h : aStep (mOwn mm) ini (.anewarray idx) pc L S z = some cf) (k : aWW p l e R s m args below meth c D mm z0 zE Q cf.1 cf.2.1 cf.2.2.1 cf.2.2.2) : aWW p l e R s m args below meth c D mm z0 zE Q pc L S z := by
  have K := C.2.2.2.2.2.2.1
  have h : a_nwa (aAnw (mOwn mm) idx) (pc + 3) L S z = some cf := h
  unfold a_nwa at h
  split at h
  · rename_i t ht
    obtain ⟨h45, h50, C0, hC0, hl⟩ := aAnw_ok ht
    obtain ⟨n, S9, rfl, hn, hlt, rfl⟩ := a_newa_inv h
    refine ww_n (fun H ls locs hR hL hS h1 h2 h3 h4 q => ?_) k
    have hAO : C0 ∈ aAO := by
      obtain ⟨C1, e1, e2, -⟩ := aElF_ref (show t ∈ [45, 46, 47, 48, 49] by
        simp only [List.mem_cons, List.not_mem_nil, or_false]
        omega)
      rw [hC0] at e1
      cases e1
      exact e2
    refine W.anew C.1 C.2.1 C.2.2.2.2.2.1 (K.word hl args) (show (Cond.arrayOver (.object C0)).before args s = true from K.2.2.2.2.2.1 _ hAO) rfl hi rfl hn (by omega) (by omega) (by omega) (fun cA kA comp f1 f2 f3 f4 => ?_)
    have hsz : H.size = aMu D (100 + gZ z) := by rw [aMu_ge (by omega), hR.1]; omega
    have hc : cA = dC D t := by
      have := (K.2.2.2.2.1 t (by omega) h50).1
      rw [hC0] at this
      exact Option.some.inj (f1.symm.trans this)
    have hR2 := hR.arr (n := n.toNatClampNeg) (by omega) h50 hc
    rw [hC0] at hR2
    have := q _ hR2 (va_S_new hS (by simp) (fun q hq => by rw [Array.getElem?_push_lt hq, Array.getElem?_eq_getElem hq]))
    rw [hsz]
    exact this
  · cases h
end OBJ2
