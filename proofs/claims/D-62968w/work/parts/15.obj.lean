/-! SOUNDNESS, 6: objects, classes, constants -/
theorem aTl : ∀ (t : Nat) (q : vw_C), aCl[t]? = some q → (aTysF t).length = q.2.2 ∧ t < 40 := by
  intro t q h
  match t, h with
  | 0, h => cases h; decide
  | 1, h => cases h; decide
  | 2, h => cases h; decide
  | 3, h => cases h; decide
  | 4, h => cases h; decide
  | 5, h => cases h; decide
  | 6, h => cases h; decide
  | 7, h => cases h; decide
  | 8, h => cases h; decide
  | 9, h => cases h; decide
  | 10, h => cases h; decide
  | 11, h => cases h; decide
  | 12, h => cases h; decide
  | 13, h => cases h; decide
  | 14, h => cases h; decide
  | 15, h => cases h; decide
  | 16, h => cases h; decide
  | 17, h => cases h; decide
  | t + 18, h => simp [aCl] at h
theorem aAst_inv {ta tv : Nat} (h : aAst ta tv = true) : ∃ q : vw_C, aCl[tv]? = some q ∧ 40 ≤ ta ∧ ta < 50 ∧ (aElF ta = .object q.1 ∨ (aElF ta = .object "java/lang/Object" ∧ q.1 ∈ aCO)) := by
  unfold aAst at h
  split at h
  · obtain rfl := eq_of_beq h
    exact ⟨_, rfl, by decide, by decide, Or.inl rfl⟩
  · obtain rfl := eq_of_beq h
    exact ⟨_, rfl, by decide, by decide, Or.inl rfl⟩
  · obtain rfl := eq_of_beq h
    exact ⟨_, rfl, by decide, by decide, Or.inl rfl⟩
  · obtain rfl := eq_of_beq h
    exact ⟨_, rfl, by decide, by decide, Or.inl rfl⟩
  · simp only [Bool.or_eq_true] at h
    rcases h with h | h | h
    · obtain rfl := eq_of_beq h
      exact ⟨_, rfl, by decide, by decide, Or.inr ⟨rfl, by decide⟩⟩
    · obtain rfl := eq_of_beq h
      exact ⟨_, rfl, by decide, by decide, Or.inr ⟨rfl, by decide⟩⟩
    · obtain rfl := eq_of_beq h
      exact ⟨_, rfl, by decide, by decide, Or.inr ⟨rfl, by decide⟩⟩
  · cases h
section OBJ
variable {p : Program} {l : Launch} {e : Env} {R : Room} {s : State} {m : MethodId} {args : Array Value} {below : List Frame} {meth : Method} {c : Code} {D : aD} {mm : aMi} {z0 zE : aSt} {Q : State → Prop}
variable {pc pc' : Nat} {L : List (Option Value)} {S S' : List Value} {z : aSt} {cf : aCf} {own : Nat} {ini : Bool}
/-- an object's cell -/
theorem aObj_at {H : Heap} {a t n : Nat} {q : vw_C} (hR : aRep D z H) (hT : gT z a = (t, n)) (hq : aCl[t]? = some q) : ∃ cell : Cell, H[aMu D a]? = some cell ∧ cell.cls = dC D t ∧ (100 ≤ a → cell.vm = .none ∧ cell.monitor = {}) ∧ cell.vm ≠ .unknown ∧ cell.vm.isStatics = false ∧ (∀ k, k < q.2.2 → cell.slots[dS D t k]? = some (aRh D (aVal z t a k))) ∧ (100 ≤ a → a - 100 < gZ z) := by
  obtain ⟨e1, h40⟩ := aTl t q hq
  obtain ⟨q1, cell, q2, ⟨p1, p2, p3, p4, p5⟩, q4⟩ := hR.2.2 a t n hT (by omega)
  have en : aNp t n = q.2.2 := (if_pos h40).trans e1
  refine ⟨cell, q2, p1, p2, p3, p4, fun k hk => ?_, q1⟩
  have := q4 k (by rw [en]; exact hk)
  rwa [show aSl D t k = dS D t k from if_pos h40] at this
theorem aKn (K : aKV D s) {t : Nat} {q : vw_C} (hq : aCl[t]? = some q) : u_Kn s q.1 q.2.1 q.2.2 (dC D t) (dS D t) := K.2.2.2.1.1 t q hq
theorem a_get_inv {idx : Nat} (h : a_get own idx pc' L S z = some cf) : ∃ a S' t k n, S = .ref a :: S' ∧ aFld own idx = some (t, k) ∧ gT z a = (t, n) ∧ cf = (pc', L, aVal z t a k :: S', z) := by
  unfold a_get at h
  split at h
  · rename_i a S9
    split at h
    · rename_i t k hf
      split at h
      · rename_i hc
        exact ⟨a, S9, t, k, (gT z a).2, rfl, hf, by rw [← hc], (Option.some.inj h).symm⟩
      · cases h
    · cases h
  · cases h
theorem a_put_inv {idx : Nat} (h : a_put own idx pc' ini L S z = some cf) : ∃ v a S' t k n z', S = v :: .ref a :: S' ∧ aFld own idx = some (t, k) ∧ gT z a = (t, n) ∧ 100 ≤ a ∧ aMay own t k ini = true ∧ aPut z t a k v = some z' ∧ cf = (pc', L, S', z') := by
  unfold a_put at h
  split at h
  · rename_i v a S9
    split at h
    · rename_i t k hf
      split at h
      · rename_i hc
        split at h
        · rename_i z' hz
          exact ⟨v, a, S9, t, k, (gT z a).2, z', rfl, hf, by rw [← hc.1], hc.2.1, hc.2.2, hz, (Option.some.inj h).symm⟩
        · cases h
      · cases h
    · cases h
  · cases h
theorem sx_getfield {idx : Nat} (C : aCx p s m meth c D mm) (hi : decode (mBytes mm) pc = .ok (.getfield idx, 3)) (h : aStep (mOwn mm) ini (.getfield idx) pc L S z = some cf) (k : aWW p l e R s m args below meth c D mm z0 zE Q cf.1 cf.2.1 cf.2.2.1 cf.2.2.2) : aWW p l e R s m args below meth c D mm z0 zE Q pc L S z := by
  obtain ⟨a, S9, t, j, n, rfl, hf, hT, rfl⟩ := a_get_inv h
  obtain ⟨q0, hq, hj, hlk⟩ := aFld_ok hf
  have K := C.2.2.2.2.2.2.1
  refine ww_r (fun H ls locs cells slots hR hL hS q => ?_) k
  obtain ⟨cell, q1, q2, q3, q4, q5, q6, -⟩ := aObj_at hR hT hq
  obtain ⟨hSl, hfc, kC, hkC, hkind⟩ := aKn K hq
  obtain ⟨cf', kf, fi, f, hi9, hsl⟩ := hSl j hj
  have hst := (u_facts (args := args) hfc hkC (u_lays (ws := lw_all) (fun w h => K.word h args) (aNm_ok t q0 hq).2.1 hj) hi9).1
  rcases hlk with ⟨ref, hl1, hl2⟩ | ⟨host, hl1⟩
  · have hi8 : s.fieldFound? ref (q0.2.1 j).2.1 (q0.2.1 j).2.2.1 = some (cf', kf, fi, f) := by
      rcases hl2 with rfl | hl2
      · exact hi9
      · exact u_same (K.word hl2 args) _ hi9
    exact W.getf C.1 C.2.1 C.2.2.2.2.2.1 (K.word hl1 args) hi8 hst q1 q4 (by rw [hsl]; exact q6 j hj) rfl rfl hi q
  · exact va_Wgetf C.1 C.2.1 C.2.2.2.2.2.1 (va_Nw.use rfl (K.2.1 _ hl1.1)) hi9 hst q1 q4 (by rw [hsl]; exact q6 j hj) rfl rfl hi q
/-- what a field's write does to the abstract memory -/
theorem aPut_inv {t a k : Nat} {v : Value} {z' : aSt} (h : aPut z t a k v = some z') : narrow (aTy t k) v = v ∧ fits (aTy t k) v = true ∧ narrow (aTy t k) (aRh D v) = aRh D v ∧ fits (aTy t k) (aRh D v) = true ∧ aVal z' t a k = v ∧ gT z' = gT z ∧ gZ z' = gZ z ∧ gS z' = gS z ∧ ∀ t b j, b ≠ a ∨ j ≠ k → aVal z' t b j = aVal z t b j := by
  unfold aPut at h
  split at h
  · rename_i e1
    cases h
    refine ⟨by rw [e1]; rfl, by rw [e1]; rfl, by rw [e1]; rfl, by rw [e1]; rfl, ?_, rfl, rfl, rfl, fun t b j hbj => aVal_sL hbj⟩
    unfold aVal
    rw [e1]
    exact congrArg Value.long a_up_eq
  · rename_i e1
    cases h
    refine ⟨by rw [e1]; rfl, by rw [e1]; rfl, by rw [e1]; rfl, by rw [e1]; rfl, ?_, rfl, rfl, rfl, fun t b j hbj => aVal_sR hbj⟩
    unfold aVal
    rw [e1]
    exact congrArg va_rf a_up_eq
  · rename_i e1
    cases h
    refine ⟨by rw [e1]; rfl, by rw [e1]; rfl, by rw [e1]; rfl, by rw [e1]; rfl, ?_, rfl, rfl, rfl, fun t b j hbj => aVal_sR hbj⟩
    unfold aVal
    rw [e1]
    exact congrArg va_rf a_up_eq
  · rename_i e1
    cases h
    refine ⟨by rw [e1]; rfl, by rw [e1]; rfl, by rw [e1]; rfl, by rw [e1]; rfl, ?_, rfl, rfl, rfl, fun t b j hbj => aVal_sR hbj⟩
    unfold aVal
    rw [e1]
    exact congrArg va_rf a_up_eq
  · rename_i e1
    cases h
    refine ⟨by rw [e1]; rfl, by rw [e1]; rfl, by rw [e1]; rfl, by rw [e1]; rfl, ?_, rfl, rfl, rfl, fun t b j hbj => aVal_sR hbj⟩
    unfold aVal
    rw [e1]
    exact congrArg va_rf a_up_eq
  · rename_i e1
    cases h
    refine ⟨by rw [e1]; rfl, by rw [e1]; rfl, by rw [e1]; rfl, by rw [e1]; rfl, ?_, rfl, rfl, rfl, fun t b j hbj => aVal_sI hbj⟩
    unfold aVal
    rw [e1]
    exact congrArg Value.int a_up_eq
  · rename_i x e1
    split at h
    · rename_i hn
      cases h
      have e2 : narrow .boolean (.int x) = .int x := congrArg Value.int hn
      have e3 : fits .boolean (.int x) = true := by rw [← e2]; exact fits_narrow_boolean x
      refine ⟨by rw [e1]; exact e2, by rw [e1]; exact e3, by rw [e1]; exact e2, by rw [e1]; exact e3, ?_, rfl, rfl, rfl, fun t b j hbj => aVal_sI hbj⟩
      unfold aVal
      rw [e1]
      exact congrArg Value.int a_up_eq
    · cases h
  · rename_i x e1
    split at h
    · rename_i hn
      cases h
      have e2 : narrow .byte (.int x) = .int x := congrArg Value.int hn
      have e3 : fits .byte (.int x) = true := by rw [← e2]; exact fits_narrow_byte x
      refine ⟨by rw [e1]; exact e2, by rw [e1]; exact e3, by rw [e1]; exact e2, by rw [e1]; exact e3, ?_, rfl, rfl, rfl, fun t b j hbj => aVal_sI hbj⟩
      unfold aVal
      rw [e1]
      exact congrArg Value.int a_up_eq
    · cases h
  · rename_i x e1
    split at h
    · rename_i hn
      cases h
      have e2 : narrow .char (.int x) = .int x := congrArg Value.int hn
      have e3 : fits .char (.int x) = true := by rw [← e2]; exact fits_narrow_char x
      refine ⟨by rw [e1]; exact e2, by rw [e1]; exact e3, by rw [e1]; exact e2, by rw [e1]; exact e3, ?_, rfl, rfl, rfl, fun t b j hbj => aVal_sI hbj⟩
      unfold aVal
      rw [e1]
      exact congrArg Value.int a_up_eq
    · cases h
  · cases h
/-- a class's slots are apart -/
theorem aSl_apart (K : aKV D s) {t : Nat} {q : vw_C} (hq : aCl[t]? = some q) {n k : Nat} (hk : k < q.2.2) : ∀ j, j < aNp t n → j ≠ k → aSl D t k ≠ aSl D t j := by
  obtain ⟨e1, h40⟩ := aTl t q hq
  have en : aNp t n = q.2.2 := (if_pos h40).trans e1
  intro j hj hjk
  rw [en] at hj
  rw [show aSl D t k = dS D t k from if_pos h40, show aSl D t j = dS D t j from if_pos h40]
  have hap := va_apart (own := "") (args := #[]) (Ts := lw_all) (D := (dC D, dS D)) (cl := aCl) (tys := []) (s := s) (C := q.1) (T := q.2.1) (N := q.2.2) (ci := t) (fun w h => K.word h #[]) (aNm_ok t q hq).2.1 (aTy t) (fun k hk => (aTy_ok t q hq k hk).1) (aNm_ok t q hq).1 K.2.2.2.1 hq
  exact hap k j hk hj (fun e => hjk e.symm)
theorem sx_putfield {idx : Nat} (C : aCx p s m meth c D mm) (hi : decode (mBytes mm) pc = .ok (.putfield idx, 3)) (h : aStep (mOwn mm) (mIni mm) (.putfield idx) pc L S z = some cf) (k : aWW p l e R s m args below meth c D mm z0 zE Q cf.1 cf.2.1 cf.2.2.1 cf.2.2.2) : aWW p l e R s m args below meth c D mm z0 zE Q pc L S z := by
  obtain ⟨v, a, S9, t, j, n, z', rfl, hf, hT, ha, hmay, hput, rfl⟩ := a_put_inv h
  obtain ⟨q0, hq, hj, hlk⟩ := aFld_ok hf
  obtain ⟨-, -, n1, n2, n3, n4, n5, n6, n7⟩ := aPut_inv (D := D) hput
  have K := C.2.2.2.2.2.2.1
  refine ww_w (z' := z') n5 n6 (fun H ls locs cells slots hR hL hS q => ?_) k
  obtain ⟨cell, q1, q2, q3, q4, q5, q6, -⟩ := aObj_at hR hT hq
  obtain ⟨e1, h40⟩ := aTl t q0 hq
  have hvm := (q3 ha).1
  obtain ⟨hSl, hfc, kC, hkC, hkind⟩ := aKn K hq
  obtain ⟨cf', kf, fi, f, hi9, hsl⟩ := hSl j hj
  have hts : ∀ w ∈ lw_all, w.before args s = true := fun w h => K.word h args
  have hly := u_lays (ws := lw_all) hts (aNm_ok t q0 hq).2.1 hj
  have hst := (u_facts (args := args) hfc hkC hly hi9).1
  obtain ⟨hpd, hfin⟩ := aTy_ok t q0 hq j hj
  have hlay := hts _ ((aNm_ok t q0 hq).2.1 _ (u_in_lay hj))
  unfold u_lay at hlay
  have hlt : f.slot < cell.slots.size := by rw [hsl]; exact k2_hasslot (q6 j hj)
  have fin : ∀ (H' : Heap), H'[aMu D a]? = some (cell.setSlot f.slot (aRh D v)) → H'.size = H.size → (∀ q, q ≠ aMu D a → H'[q]? = H[q]?) → W p l e R s m args below meth c H' (locs ++ [⟨aMu D a, f.slot⟩]) cells slots Q (F0 m (pc + 3) ls (S9.map (aRh D))) := by
    intro H' f1 f2 f3
    rw [hsl] at f1
    exact q H' _ (hR.put ha hT (by omega) (by rw [show aNp t n = q0.2.2 from (if_pos h40).trans e1]; exact hj) q1 (aSl_apart K hq hj) (by rw [show aSl D t j = dS D t j from if_pos h40]; exact f1) f2 f3 n4 n5 (by rw [n3]) n7) (va_S_put hS ha f2 f3)
  by_cases hF : (aFin_ t).getD j true = true
  · rw [if_pos (by rw [hfin]; exact hF)] at hlay
    have hmay2 : (mIni mm && Nat.beq (aTgO t) (mOwn mm)) = true := by
      have := hmay
      unfold aMay at this
      rwa [if_pos hF] at this
    simp only [Bool.and_eq_true] at hmay2
    have hown : aTgO t = mOwn mm := Nat.eq_of_beq_eq_true hmay2.2
    have hdecl : (q0.2.1 j).1 = aOwn (mOwn mm) := by rw [← hown]; exact (aNm_ok t q0 hq).2.2 j hj hF
    have hcf : m.cls = cf' := by
      obtain ⟨_, _, c', _, _, _, -, -, hf', -, -, -, hown2, -⟩ := Cond.laysFinal_spec hlay
      have e1 : c' = cf' := by have := hi9.symm.trans hf'; simp at this; exact this.1.symm
      rw [hdecl] at hown2
      rw [← e1]
      exact Option.some.inj (C.2.2.2.2.2.1.symm.trans hown2)
    have h6 := u_fits hfc hkC hkind (Or.inr hlay) hi9 hpd n1 n2
    rcases hlk with ⟨ref, hl1, hl2⟩ | ⟨host, hl1⟩
    · have hi8 : s.fieldFound? ref (q0.2.1 j).2.1 (q0.2.1 j).2.2.1 = some (cf', kf, fi, f) := by
        rcases hl2 with rfl | hl2
        · exact hi9
        · exact u_same (K.word hl2 args) _ hi9
      exact W.putFinK C.1 C.2.1 C.2.2.2.2.2.1 (K.word hl1 args) hi8 hst hcf (C.2.2.2.2.2.2.2 hmay2.1) (by rw [q2]; exact h6) q1 hvm hlt rfl rfl hi fin
    · exact absurd hown hl1.2
  · rw [if_neg (by rw [hfin]; exact hF)] at hlay
    have h6 := u_store hfc hkC hkind hlay hi9 hpd n1 n2
    rcases hlk with ⟨ref, hl1, hl2⟩ | ⟨host, hl1⟩
    · have hi8 : s.fieldFound? ref (q0.2.1 j).2.1 (q0.2.1 j).2.2.1 = some (cf', kf, fi, f) := by
        rcases hl2 with rfl | hl2
        · exact hi9
        · exact u_same (K.word hl2 args) _ hi9
      exact W.putK C.1 C.2.1 (f := f) ⟨C.2.2.2.2.2.1, K.word hl1 args, ⟨_, _, _, hi8⟩, hst⟩ (by rw [q2]; exact h6) q1 hvm hlt rfl rfl hi fin
    · exact va_WputK C.1 C.2.1 C.2.2.2.2.2.1 (va_Nw.use rfl (K.2.1 _ hl1.1)) hi9 hst (by rw [q2]; exact h6) q1 hvm hlt rfl rfl hi fin
end OBJ
