/-! SOUNDNESS, 4: the rows of the instructions that leave the memory as it is (by program) -/
section PURE2
variable {p : Program} {l : Launch} {e : Env} {R : Room} {s : State} {m : MethodId} {args : Array Value} {below : List Frame} {meth : Method} {c : Code} {D : aD} {mm : aMi} {z0 zE : aSt} {Q : State → Prop}
variable {pc : Nat} {L : List (Option Value)} {S : List Value} {z : aSt} {cf : aCf} {own : Nat} {ini : Bool}
theorem sx_iconst {n : Int} (C : aCx p s m meth c D mm) (hi : decode (mBytes mm) pc = .ok (.iconst n, 1)) (h : aStep own ini (.iconst n) pc L S z = some cf) (k : aWW p l e R s m args below meth c D mm z0 zE Q cf.1 cf.2.1 cf.2.2.1 cf.2.2.2) : aWW p l e R s m args below meth c D mm z0 zE Q pc L S z := by
  obtain rfl := Option.some.inj h
  exact ww_p (fun H ls locs cells slots hL q => lv_iconst C.1 C.2.1 hi rfl q) k
theorem sx_bipush {n : Int} (C : aCx p s m meth c D mm) (hi : decode (mBytes mm) pc = .ok (.bipush n, 2)) (h : aStep own ini (.bipush n) pc L S z = some cf) (k : aWW p l e R s m args below meth c D mm z0 zE Q cf.1 cf.2.1 cf.2.2.1 cf.2.2.2) : aWW p l e R s m args below meth c D mm z0 zE Q pc L S z := by
  obtain rfl := Option.some.inj h
  exact ww_p (fun H ls locs cells slots hL q => lv_bipush C.1 C.2.1 hi rfl q) k
theorem sx_sipush {n : Int} (C : aCx p s m meth c D mm) (hi : decode (mBytes mm) pc = .ok (.sipush n, 3)) (h : aStep own ini (.sipush n) pc L S z = some cf) (k : aWW p l e R s m args below meth c D mm z0 zE Q cf.1 cf.2.1 cf.2.2.1 cf.2.2.2) : aWW p l e R s m args below meth c D mm z0 zE Q pc L S z := by
  obtain rfl := Option.some.inj h
  exact ww_p (fun H ls locs cells slots hL q => lv_sipush C.1 C.2.1 hi rfl q) k
theorem sx_lconst {n : Fin 2} (C : aCx p s m meth c D mm) (hi : decode (mBytes mm) pc = .ok (.lconst n, 1)) (h : aStep own ini (.lconst n) pc L S z = some cf) (k : aWW p l e R s m args below meth c D mm z0 zE Q cf.1 cf.2.1 cf.2.2.1 cf.2.2.2) : aWW p l e R s m args below meth c D mm z0 zE Q pc L S z := by
  obtain rfl := Option.some.inj h
  exact ww_p (fun H ls locs cells slots hL q => lv_lconst C.1 C.2.1 hi rfl q) k
theorem sx_aconst_null (C : aCx p s m meth c D mm) (hi : decode (mBytes mm) pc = .ok (.aconst_null, 1)) (h : aStep own ini (.aconst_null) pc L S z = some cf) (k : aWW p l e R s m args below meth c D mm z0 zE Q cf.1 cf.2.1 cf.2.2.1 cf.2.2.2) : aWW p l e R s m args below meth c D mm z0 zE Q pc L S z := by
  obtain rfl := Option.some.inj h
  exact ww_p (fun H ls locs cells slots hL q => lv_null C.1 C.2.1 hi q) k
theorem sx_iload_n {n : Fin 4} (C : aCx p s m meth c D mm) (hi : decode (mBytes mm) pc = .ok (.iload_n n, 1)) (h : aStep own ini (.iload_n n) pc L S z = some cf) (k : aWW p l e R s m args below meth c D mm z0 zE Q cf.1 cf.2.1 cf.2.2.1 cf.2.2.2) : aWW p l e R s m args below meth c D mm z0 zE Q pc L S z := by
  obtain ⟨v, hv, ho, rfl⟩ := a_ld_inv h
  obtain ⟨x, rfl⟩ := a_isI_inv ho
  exact ww_p (fun H ls locs cells slots hL q => lv_iload_n C.1 C.2.1 hi rfl (hL.2.2 _ _ hv) q) k
theorem sx_iload {n : Nat} (C : aCx p s m meth c D mm) (hi : decode (mBytes mm) pc = .ok (.iload n, 2)) (h : aStep own ini (.iload n) pc L S z = some cf) (k : aWW p l e R s m args below meth c D mm z0 zE Q cf.1 cf.2.1 cf.2.2.1 cf.2.2.2) : aWW p l e R s m args below meth c D mm z0 zE Q pc L S z := by
  obtain ⟨v, hv, ho, rfl⟩ := a_ld_inv h
  obtain ⟨x, rfl⟩ := a_isI_inv ho
  exact ww_p (fun H ls locs cells slots hL q => lv_iload C.1 C.2.1 hi (hL.2.2 _ _ hv) q) k
theorem sx_lload_n {n : Fin 4} (C : aCx p s m meth c D mm) (hi : decode (mBytes mm) pc = .ok (.lload_n n, 1)) (h : aStep own ini (.lload_n n) pc L S z = some cf) (k : aWW p l e R s m args below meth c D mm z0 zE Q cf.1 cf.2.1 cf.2.2.1 cf.2.2.2) : aWW p l e R s m args below meth c D mm z0 zE Q pc L S z := by
  obtain ⟨v, hv, ho, rfl⟩ := a_ld_inv h
  obtain ⟨x, rfl⟩ := a_isL_inv ho
  exact ww_p (fun H ls locs cells slots hL q => lv_lload_n C.1 C.2.1 hi rfl (hL.2.2 _ _ hv) q) k
theorem sx_lload {n : Nat} (C : aCx p s m meth c D mm) (hi : decode (mBytes mm) pc = .ok (.lload n, 2)) (h : aStep own ini (.lload n) pc L S z = some cf) (k : aWW p l e R s m args below meth c D mm z0 zE Q cf.1 cf.2.1 cf.2.2.1 cf.2.2.2) : aWW p l e R s m args below meth c D mm z0 zE Q pc L S z := by
  obtain ⟨v, hv, ho, rfl⟩ := a_ld_inv h
  obtain ⟨x, rfl⟩ := a_isL_inv ho
  exact ww_p (fun H ls locs cells slots hL q => lv_lload C.1 C.2.1 hi (hL.2.2 _ _ hv) q) k
theorem sx_aload_n {n : Fin 4} (C : aCx p s m meth c D mm) (hi : decode (mBytes mm) pc = .ok (.aload_n n, 1)) (h : aStep own ini (.aload_n n) pc L S z = some cf) (k : aWW p l e R s m args below meth c D mm z0 zE Q cf.1 cf.2.1 cf.2.2.1 cf.2.2.2) : aWW p l e R s m args below meth c D mm z0 zE Q pc L S z := by
  obtain ⟨v, hv, ho, rfl⟩ := a_ld_inv h
  rcases a_isR_inv ho with rfl | ⟨x, rfl⟩
  · exact ww_p (fun H ls locs cells slots hL q => lv_aload_nN C.1 C.2.1 hi rfl (hL.2.2 _ _ hv) q) k
  · exact ww_p (fun H ls locs cells slots hL q => lv_aload_n C.1 C.2.1 hi rfl (hL.2.2 _ _ hv) q) k
theorem sx_aload {n : Nat} (C : aCx p s m meth c D mm) (hi : decode (mBytes mm) pc = .ok (.aload n, 2)) (h : aStep own ini (.aload n) pc L S z = some cf) (k : aWW p l e R s m args below meth c D mm z0 zE Q cf.1 cf.2.1 cf.2.2.1 cf.2.2.2) : aWW p l e R s m args below meth c D mm z0 zE Q pc L S z := by
  obtain ⟨v, hv, ho, rfl⟩ := a_ld_inv h
  rcases a_isR_inv ho with rfl | ⟨x, rfl⟩
  · exact ww_p (fun H ls locs cells slots hL q => lv_aloadN C.1 C.2.1 hi (hL.2.2 _ _ hv) q) k
  · exact ww_p (fun H ls locs cells slots hL q => lv_aload C.1 C.2.1 hi (hL.2.2 _ _ hv) q) k
theorem sx_istore_n {n : Fin 4} (C : aCx p s m meth c D mm) (hi : decode (mBytes mm) pc = .ok (.istore_n n, 1)) (h : aStep own ini (.istore_n n) pc L S z = some cf) (k : aWW p l e R s m args below meth c D mm z0 zE Q cf.1 cf.2.1 cf.2.2.1 cf.2.2.2) : aWW p l e R s m args below meth c D mm z0 zE Q pc L S z := by
  obtain ⟨v, S9, rfl, ho, hc, rfl⟩ := a_st_inv h
  obtain ⟨x, rfl⟩ := a_isI_inv ho
  have hc : (n : Nat) + 1 ≤ L.length := hc
  exact ww_l (aSto_len L _ _) (fun H ls locs cells slots hL q => lv_istore_n C.1 C.2.1 hi rfl hL.lv (by omega) rfl (fun ls9 h9 => q ls9 (aLoc.st1 (by omega) h9))) k
theorem sx_istore {n : Nat} (C : aCx p s m meth c D mm) (hi : decode (mBytes mm) pc = .ok (.istore n, 2)) (h : aStep own ini (.istore n) pc L S z = some cf) (k : aWW p l e R s m args below meth c D mm z0 zE Q cf.1 cf.2.1 cf.2.2.1 cf.2.2.2) : aWW p l e R s m args below meth c D mm z0 zE Q pc L S z := by
  obtain ⟨v, S9, rfl, ho, hc, rfl⟩ := a_st_inv h
  obtain ⟨x, rfl⟩ := a_isI_inv ho
  have hc : (n : Nat) + 1 ≤ L.length := hc
  exact ww_l (aSto_len L _ _) (fun H ls locs cells slots hL q => lv_istore C.1 C.2.1 hi hL.lv (by omega) rfl (fun ls9 h9 => q ls9 (aLoc.st1 (by omega) h9))) k
theorem sx_lstore_n {n : Fin 4} (C : aCx p s m meth c D mm) (hi : decode (mBytes mm) pc = .ok (.lstore_n n, 1)) (h : aStep own ini (.lstore_n n) pc L S z = some cf) (k : aWW p l e R s m args below meth c D mm z0 zE Q cf.1 cf.2.1 cf.2.2.1 cf.2.2.2) : aWW p l e R s m args below meth c D mm z0 zE Q pc L S z := by
  obtain ⟨v, S9, rfl, ho, hc, rfl⟩ := a_st_inv h
  obtain ⟨x, rfl⟩ := a_isL_inv ho
  have hc : (n : Nat) + 2 ≤ L.length := hc
  exact ww_l (aSto_len L _ _) (fun H ls locs cells slots hL q => lv_lstore_n C.1 C.2.1 hi rfl hL.lv (by omega) rfl (fun ls9 h9 => q ls9 (aLoc.st2 (by omega) rfl h9))) k
theorem sx_lstore {n : Nat} (C : aCx p s m meth c D mm) (hi : decode (mBytes mm) pc = .ok (.lstore n, 2)) (h : aStep own ini (.lstore n) pc L S z = some cf) (k : aWW p l e R s m args below meth c D mm z0 zE Q cf.1 cf.2.1 cf.2.2.1 cf.2.2.2) : aWW p l e R s m args below meth c D mm z0 zE Q pc L S z := by
  obtain ⟨v, S9, rfl, ho, hc, rfl⟩ := a_st_inv h
  obtain ⟨x, rfl⟩ := a_isL_inv ho
  have hc : (n : Nat) + 2 ≤ L.length := hc
  exact ww_l (aSto_len L _ _) (fun H ls locs cells slots hL q => lv_lstore C.1 C.2.1 hi hL.lv (by omega) rfl (fun ls9 h9 => q ls9 (aLoc.st2 (by omega) rfl h9))) k
theorem sx_astore_n {n : Fin 4} (C : aCx p s m meth c D mm) (hi : decode (mBytes mm) pc = .ok (.astore_n n, 1)) (h : aStep own ini (.astore_n n) pc L S z = some cf) (k : aWW p l e R s m args below meth c D mm z0 zE Q cf.1 cf.2.1 cf.2.2.1 cf.2.2.2) : aWW p l e R s m args below meth c D mm z0 zE Q pc L S z := by
  obtain ⟨v, S9, rfl, ho, hc, rfl⟩ := a_st_inv h
  rcases a_isR_inv ho with rfl | ⟨x, rfl⟩
  · have hc : (n : Nat) + 1 ≤ L.length := hc
    exact ww_l (aSto_len L _ _) (fun H ls locs cells slots hL q => lv_astore_nN C.1 C.2.1 hi rfl hL.lv (by omega) rfl (fun ls9 h9 => q ls9 (aLoc.st1 (by omega) h9))) k
  · have hc : (n : Nat) + 1 ≤ L.length := hc
    exact ww_l (aSto_len L _ _) (fun H ls locs cells slots hL q => lv_astore_n C.1 C.2.1 hi rfl hL.lv (by omega) rfl (fun ls9 h9 => q ls9 (aLoc.st1 (by omega) h9))) k
theorem sx_astore {n : Nat} (C : aCx p s m meth c D mm) (hi : decode (mBytes mm) pc = .ok (.astore n, 2)) (h : aStep own ini (.astore n) pc L S z = some cf) (k : aWW p l e R s m args below meth c D mm z0 zE Q cf.1 cf.2.1 cf.2.2.1 cf.2.2.2) : aWW p l e R s m args below meth c D mm z0 zE Q pc L S z := by
  obtain ⟨v, S9, rfl, ho, hc, rfl⟩ := a_st_inv h
  rcases a_isR_inv ho with rfl | ⟨x, rfl⟩
  · have hc : (n : Nat) + 1 ≤ L.length := hc
    exact ww_l (aSto_len L _ _) (fun H ls locs cells slots hL q => lv_astoreN C.1 C.2.1 hi hL.lv (by omega) rfl (fun ls9 h9 => q ls9 (aLoc.st1 (by omega) h9))) k
  · have hc : (n : Nat) + 1 ≤ L.length := hc
    exact ww_l (aSto_len L _ _) (fun H ls locs cells slots hL q => lv_astore C.1 C.2.1 hi hL.lv (by omega) rfl (fun ls9 h9 => q ls9 (aLoc.st1 (by omega) h9))) k
theorem sx_iinc {n : Nat} {j : Int} (C : aCx p s m meth c D mm) (hi : decode (mBytes mm) pc = .ok (.iinc n j, 3)) (h : aStep own ini (.iinc n j) pc L S z = some cf) (k : aWW p l e R s m args below meth c D mm z0 zE Q cf.1 cf.2.1 cf.2.2.1 cf.2.2.2) : aWW p l e R s m args below meth c D mm z0 zE Q pc L S z := by
  have h : a_iinc n j (pc + 3) L S z = some cf := h
  unfold a_iinc at h
  split at h
  · rename_i x hx
    obtain rfl := Option.some.inj h
    have hn : n < L.length := (List.getElem?_eq_some_iff.mp hx).1
    obtain ⟨i9, hi9⟩ := List.getElem?_of_mem (aLv_mem (D := D) hx)
    exact ww_l (aSto_len L _ _) (fun H ls locs cells slots hL q => lv_iinc C.1 C.2.1 hi hL.lv hi9 rfl hn rfl (fun ls9 h9 => q ls9 (aLoc.st1 (v := .int (x + Int32.ofInt j)) hn h9))) k
  · cases h
theorem sx_iadd (C : aCx p s m meth c D mm) (hi : decode (mBytes mm) pc = .ok (.iadd, 1)) (h : aStep own ini (.iadd) pc L S z = some cf) (k : aWW p l e R s m args below meth c D mm z0 zE Q cf.1 cf.2.1 cf.2.2.1 cf.2.2.2) : aWW p l e R s m args below meth c D mm z0 zE Q pc L S z := by
  obtain ⟨x, y, S9, rfl, rfl⟩ := a_ii_inv h
  exact ww_p (fun H ls locs cells slots hL q => lv_iadd C.1 C.2.1 hi q) k
theorem sx_isub (C : aCx p s m meth c D mm) (hi : decode (mBytes mm) pc = .ok (.isub, 1)) (h : aStep own ini (.isub) pc L S z = some cf) (k : aWW p l e R s m args below meth c D mm z0 zE Q cf.1 cf.2.1 cf.2.2.1 cf.2.2.2) : aWW p l e R s m args below meth c D mm z0 zE Q pc L S z := by
  obtain ⟨x, y, S9, rfl, rfl⟩ := a_ii_inv h
  exact ww_p (fun H ls locs cells slots hL q => lv_isub C.1 C.2.1 hi q) k
theorem sx_imul (C : aCx p s m meth c D mm) (hi : decode (mBytes mm) pc = .ok (.imul, 1)) (h : aStep own ini (.imul) pc L S z = some cf) (k : aWW p l e R s m args below meth c D mm z0 zE Q cf.1 cf.2.1 cf.2.2.1 cf.2.2.2) : aWW p l e R s m args below meth c D mm z0 zE Q pc L S z := by
  obtain ⟨x, y, S9, rfl, rfl⟩ := a_ii_inv h
  exact ww_p (fun H ls locs cells slots hL q => lv_imul C.1 C.2.1 hi q) k
theorem sx_iand (C : aCx p s m meth c D mm) (hi : decode (mBytes mm) pc = .ok (.iand, 1)) (h : aStep own ini (.iand) pc L S z = some cf) (k : aWW p l e R s m args below meth c D mm z0 zE Q cf.1 cf.2.1 cf.2.2.1 cf.2.2.2) : aWW p l e R s m args below meth c D mm z0 zE Q pc L S z := by
  obtain ⟨x, y, S9, rfl, rfl⟩ := a_ii_inv h
  exact ww_p (fun H ls locs cells slots hL q => lv_iand C.1 C.2.1 hi q) k
theorem sx_ior (C : aCx p s m meth c D mm) (hi : decode (mBytes mm) pc = .ok (.ior, 1)) (h : aStep own ini (.ior) pc L S z = some cf) (k : aWW p l e R s m args below meth c D mm z0 zE Q cf.1 cf.2.1 cf.2.2.1 cf.2.2.2) : aWW p l e R s m args below meth c D mm z0 zE Q pc L S z := by
  obtain ⟨x, y, S9, rfl, rfl⟩ := a_ii_inv h
  exact ww_p (fun H ls locs cells slots hL q => lv_ior C.1 C.2.1 hi q) k
theorem sx_ixor (C : aCx p s m meth c D mm) (hi : decode (mBytes mm) pc = .ok (.ixor, 1)) (h : aStep own ini (.ixor) pc L S z = some cf) (k : aWW p l e R s m args below meth c D mm z0 zE Q cf.1 cf.2.1 cf.2.2.1 cf.2.2.2) : aWW p l e R s m args below meth c D mm z0 zE Q pc L S z := by
  obtain ⟨x, y, S9, rfl, rfl⟩ := a_ii_inv h
  exact ww_p (fun H ls locs cells slots hL q => lv_ixor C.1 C.2.1 hi q) k
theorem sx_ishl (C : aCx p s m meth c D mm) (hi : decode (mBytes mm) pc = .ok (.ishl, 1)) (h : aStep own ini (.ishl) pc L S z = some cf) (k : aWW p l e R s m args below meth c D mm z0 zE Q cf.1 cf.2.1 cf.2.2.1 cf.2.2.2) : aWW p l e R s m args below meth c D mm z0 zE Q pc L S z := by
  obtain ⟨x, y, S9, rfl, rfl⟩ := a_ii_inv h
  exact ww_p (fun H ls locs cells slots hL q => lv_ishl C.1 C.2.1 hi q) k
theorem sx_ishr (C : aCx p s m meth c D mm) (hi : decode (mBytes mm) pc = .ok (.ishr, 1)) (h : aStep own ini (.ishr) pc L S z = some cf) (k : aWW p l e R s m args below meth c D mm z0 zE Q cf.1 cf.2.1 cf.2.2.1 cf.2.2.2) : aWW p l e R s m args below meth c D mm z0 zE Q pc L S z := by
  obtain ⟨x, y, S9, rfl, rfl⟩ := a_ii_inv h
  exact ww_p (fun H ls locs cells slots hL q => lv_ishr C.1 C.2.1 hi q) k
theorem sx_iushr (C : aCx p s m meth c D mm) (hi : decode (mBytes mm) pc = .ok (.iushr, 1)) (h : aStep own ini (.iushr) pc L S z = some cf) (k : aWW p l e R s m args below meth c D mm z0 zE Q cf.1 cf.2.1 cf.2.2.1 cf.2.2.2) : aWW p l e R s m args below meth c D mm z0 zE Q pc L S z := by
  obtain ⟨x, y, S9, rfl, rfl⟩ := a_ii_inv h
  exact ww_p (fun H ls locs cells slots hL q => lv_iushr C.1 C.2.1 hi rfl q) k
theorem sx_idiv (C : aCx p s m meth c D mm) (hi : decode (mBytes mm) pc = .ok (.idiv, 1)) (h : aStep own ini (.idiv) pc L S z = some cf) (k : aWW p l e R s m args below meth c D mm z0 zE Q cf.1 cf.2.1 cf.2.2.1 cf.2.2.2) : aWW p l e R s m args below meth c D mm z0 zE Q pc L S z := by
  have h : a_dv _ (pc + 1) L S z = some cf := h
  unfold a_dv at h
  split at h
  · rename_i y x S9
    split at h
    · cases h
    · rename_i hy
      obtain rfl := Option.some.inj h
      exact ww_p (fun H ls locs cells slots hL q => lv_idiv C.1 C.2.1 hi hy q) k
  · cases h
theorem sx_irem (C : aCx p s m meth c D mm) (hi : decode (mBytes mm) pc = .ok (.irem, 1)) (h : aStep own ini (.irem) pc L S z = some cf) (k : aWW p l e R s m args below meth c D mm z0 zE Q cf.1 cf.2.1 cf.2.2.1 cf.2.2.2) : aWW p l e R s m args below meth c D mm z0 zE Q pc L S z := by
  have h : a_dv _ (pc + 1) L S z = some cf := h
  unfold a_dv at h
  split at h
  · rename_i y x S9
    split at h
    · cases h
    · rename_i hy
      obtain rfl := Option.some.inj h
      exact ww_p (fun H ls locs cells slots hL q => lv_irem C.1 C.2.1 hi hy q) k
  · cases h
theorem sx_ineg (C : aCx p s m meth c D mm) (hi : decode (mBytes mm) pc = .ok (.ineg, 1)) (h : aStep own ini (.ineg) pc L S z = some cf) (k : aWW p l e R s m args below meth c D mm z0 zE Q cf.1 cf.2.1 cf.2.2.1 cf.2.2.2) : aWW p l e R s m args below meth c D mm z0 zE Q pc L S z := by
  obtain ⟨x, S9, rfl, rfl⟩ := a_i1_inv h
  exact ww_p (fun H ls locs cells slots hL q => lv_ineg C.1 C.2.1 hi q) k
theorem sx_i2l (C : aCx p s m meth c D mm) (hi : decode (mBytes mm) pc = .ok (.i2l, 1)) (h : aStep own ini (.i2l) pc L S z = some cf) (k : aWW p l e R s m args below meth c D mm z0 zE Q cf.1 cf.2.1 cf.2.2.1 cf.2.2.2) : aWW p l e R s m args below meth c D mm z0 zE Q pc L S z := by
  obtain ⟨x, S9, rfl, rfl⟩ := a_i1_inv h
  exact ww_p (fun H ls locs cells slots hL q => lv_i2l C.1 C.2.1 hi rfl q) k
theorem sx_i2b (C : aCx p s m meth c D mm) (hi : decode (mBytes mm) pc = .ok (.i2b, 1)) (h : aStep own ini (.i2b) pc L S z = some cf) (k : aWW p l e R s m args below meth c D mm z0 zE Q cf.1 cf.2.1 cf.2.2.1 cf.2.2.2) : aWW p l e R s m args below meth c D mm z0 zE Q pc L S z := by
  obtain ⟨x, S9, rfl, rfl⟩ := a_i1_inv h
  exact ww_p (fun H ls locs cells slots hL q => lv_i2b C.1 C.2.1 hi rfl q) k
theorem sx_i2c (C : aCx p s m meth c D mm) (hi : decode (mBytes mm) pc = .ok (.i2c, 1)) (h : aStep own ini (.i2c) pc L S z = some cf) (k : aWW p l e R s m args below meth c D mm z0 zE Q cf.1 cf.2.1 cf.2.2.1 cf.2.2.2) : aWW p l e R s m args below meth c D mm z0 zE Q pc L S z := by
  obtain ⟨x, S9, rfl, rfl⟩ := a_i1_inv h
  exact ww_p (fun H ls locs cells slots hL q => lv_i2c C.1 C.2.1 hi rfl q) k
theorem sx_l2i (C : aCx p s m meth c D mm) (hi : decode (mBytes mm) pc = .ok (.l2i, 1)) (h : aStep own ini (.l2i) pc L S z = some cf) (k : aWW p l e R s m args below meth c D mm z0 zE Q cf.1 cf.2.1 cf.2.2.1 cf.2.2.2) : aWW p l e R s m args below meth c D mm z0 zE Q pc L S z := by
  obtain ⟨x, S9, rfl, rfl⟩ := a_l1_inv h
  exact ww_p (fun H ls locs cells slots hL q => lv_l2i C.1 C.2.1 hi rfl q) k
theorem sx_land (C : aCx p s m meth c D mm) (hi : decode (mBytes mm) pc = .ok (.land, 1)) (h : aStep own ini (.land) pc L S z = some cf) (k : aWW p l e R s m args below meth c D mm z0 zE Q cf.1 cf.2.1 cf.2.2.1 cf.2.2.2) : aWW p l e R s m args below meth c D mm z0 zE Q pc L S z := by
  obtain ⟨x, y, S9, rfl, rfl⟩ := a_ll_inv h
  exact ww_p (fun H ls locs cells slots hL q => lv_land C.1 C.2.1 hi q) k
theorem sx_lor (C : aCx p s m meth c D mm) (hi : decode (mBytes mm) pc = .ok (.lor, 1)) (h : aStep own ini (.lor) pc L S z = some cf) (k : aWW p l e R s m args below meth c D mm z0 zE Q cf.1 cf.2.1 cf.2.2.1 cf.2.2.2) : aWW p l e R s m args below meth c D mm z0 zE Q pc L S z := by
  obtain ⟨x, y, S9, rfl, rfl⟩ := a_ll_inv h
  exact ww_p (fun H ls locs cells slots hL q => lv_lor C.1 C.2.1 hi q) k
theorem sx_lshl (C : aCx p s m meth c D mm) (hi : decode (mBytes mm) pc = .ok (.lshl, 1)) (h : aStep own ini (.lshl) pc L S z = some cf) (k : aWW p l e R s m args below meth c D mm z0 zE Q cf.1 cf.2.1 cf.2.2.1 cf.2.2.2) : aWW p l e R s m args below meth c D mm z0 zE Q pc L S z := by
  obtain ⟨x, y, S9, rfl, rfl⟩ := a_li_inv h
  exact ww_p (fun H ls locs cells slots hL q => lv_lshl C.1 C.2.1 hi rfl q) k
theorem sx_lshr (C : aCx p s m meth c D mm) (hi : decode (mBytes mm) pc = .ok (.lshr, 1)) (h : aStep own ini (.lshr) pc L S z = some cf) (k : aWW p l e R s m args below meth c D mm z0 zE Q cf.1 cf.2.1 cf.2.2.1 cf.2.2.2) : aWW p l e R s m args below meth c D mm z0 zE Q pc L S z := by
  obtain ⟨x, y, S9, rfl, rfl⟩ := a_li_inv h
  exact ww_p (fun H ls locs cells slots hL q => lv_lshr C.1 C.2.1 hi rfl q) k
theorem sx_lushr (C : aCx p s m meth c D mm) (hi : decode (mBytes mm) pc = .ok (.lushr, 1)) (h : aStep own ini (.lushr) pc L S z = some cf) (k : aWW p l e R s m args below meth c D mm z0 zE Q cf.1 cf.2.1 cf.2.2.1 cf.2.2.2) : aWW p l e R s m args below meth c D mm z0 zE Q pc L S z := by
  obtain ⟨x, y, S9, rfl, rfl⟩ := a_li_inv h
  exact ww_p (fun H ls locs cells slots hL q => lv_lushr C.1 C.2.1 hi rfl q) k
theorem sx_lcmp (C : aCx p s m meth c D mm) (hi : decode (mBytes mm) pc = .ok (.lcmp, 1)) (h : aStep own ini (.lcmp) pc L S z = some cf) (k : aWW p l e R s m args below meth c D mm z0 zE Q cf.1 cf.2.1 cf.2.2.1 cf.2.2.2) : aWW p l e R s m args below meth c D mm z0 zE Q pc L S z := by
  have h : a_lcm (pc + 1) L S z = some cf := h
  unfold a_lcm at h
  split at h
  · obtain rfl := Option.some.inj h
    exact ww_p (fun H ls locs cells slots hL q => W.lcmp C.1 C.2.1 hi q) k
  · cases h
theorem sx_dup (C : aCx p s m meth c D mm) (hi : decode (mBytes mm) pc = .ok (.dup, 1)) (h : aStep own ini (.dup) pc L S z = some cf) (k : aWW p l e R s m args below meth c D mm z0 zE Q cf.1 cf.2.1 cf.2.2.1 cf.2.2.2) : aWW p l e R s m args below meth c D mm z0 zE Q pc L S z := by
  have h : a_dup (pc + 1) L S z = some cf := h
  unfold a_dup at h
  split at h
  · split at h
    · rename_i hc
      obtain rfl := Option.some.inj h
      exact ww_p (fun H ls locs cells slots hL q => lv_dup C.1 C.2.1 hi (by rw [aRh_cat]; exact hc) q) k
    · cases h
  · cases h
theorem sx_pop (C : aCx p s m meth c D mm) (hi : decode (mBytes mm) pc = .ok (.pop, 1)) (h : aStep own ini (.pop) pc L S z = some cf) (k : aWW p l e R s m args below meth c D mm z0 zE Q cf.1 cf.2.1 cf.2.2.1 cf.2.2.2) : aWW p l e R s m args below meth c D mm z0 zE Q pc L S z := by
  have h : a_pop (pc + 1) L S z = some cf := h
  unfold a_pop at h
  split at h
  · split at h
    · rename_i hc
      obtain rfl := Option.some.inj h
      exact ww_p (fun H ls locs cells slots hL q => lv_pop C.1 C.2.1 hi (by rw [aRh_cat]; exact hc) q) k
    · cases h
  · cases h
theorem sx_dup_x1 (C : aCx p s m meth c D mm) (hi : decode (mBytes mm) pc = .ok (.dup_x1, 1)) (h : aStep own ini (.dup_x1) pc L S z = some cf) (k : aWW p l e R s m args below meth c D mm z0 zE Q cf.1 cf.2.1 cf.2.2.1 cf.2.2.2) : aWW p l e R s m args below meth c D mm z0 zE Q pc L S z := by
  have h : a_dupx1 (pc + 1) L S z = some cf := h
  unfold a_dupx1 at h
  split at h
  · split at h
    · rename_i hc
      obtain rfl := Option.some.inj h
      exact ww_p (fun H ls locs cells slots hL q => lv_dup_x1 C.1 C.2.1 hi (by rw [aRh_cat]; exact hc.1) (by rw [aRh_cat]; exact hc.2) q) k
    · cases h
  · cases h
theorem sx_dup2 (C : aCx p s m meth c D mm) (hi : decode (mBytes mm) pc = .ok (.dup2, 1)) (h : aStep own ini (.dup2) pc L S z = some cf) (k : aWW p l e R s m args below meth c D mm z0 zE Q cf.1 cf.2.1 cf.2.2.1 cf.2.2.2) : aWW p l e R s m args below meth c D mm z0 zE Q pc L S z := by
  have h : a_dup2 (pc + 1) L S z = some cf := h
  unfold a_dup2 at h
  split at h
  · split at h
    · rename_i hc
      obtain rfl := Option.some.inj h
      exact ww_p (fun H ls locs cells slots hL q => lv_dup2_11 C.1 C.2.1 hi (by rw [aRh_cat]; exact hc.1) (by rw [aRh_cat]; exact hc.2) q) k
    · cases h
  · cases h
theorem sx_goto {off : Int} (C : aCx p s m meth c D mm) (hi : decode (mBytes mm) pc = .ok (.goto off, 3)) (h : aStep own ini (.goto off) pc L S z = some cf) (k : aWW p l e R s m args below meth c D mm z0 zE Q cf.1 cf.2.1 cf.2.2.1 cf.2.2.2) : aWW p l e R s m args below meth c D mm z0 zE Q pc L S z := by
  obtain ⟨t, ht, rfl⟩ := a_jp_inv h
  exact ww_p (fun H ls locs cells slots hL q => lv_goto C.1 C.2.1 hi ht q) k
theorem sx_if_eq {off : Int} (C : aCx p s m meth c D mm) (hi : decode (mBytes mm) pc = .ok (.ifCond .eq off, 3)) (h : aStep own ini (.ifCond .eq off) pc L S z = some cf) (k : aWW p l e R s m args below meth c D mm z0 zE Q cf.1 cf.2.1 cf.2.2.1 cf.2.2.2) : aWW p l e R s m args below meth c D mm z0 zE Q pc L S z := by
  obtain ⟨x, S9, rfl, t, ht, ⟨q9, rfl⟩ | ⟨q9, rfl⟩⟩ := a_if1_inv h
  · exact ww_p (fun H ls locs cells slots hL q => lv_if_eq C.1 C.2.1 hi ht (fun _ => q) (fun z => absurd q9 z)) k
  · exact ww_p (fun H ls locs cells slots hL q => lv_if_eq C.1 C.2.1 hi ht (fun z => absurd z q9) (fun _ => q)) k
theorem sx_icmp_eq {off : Int} (C : aCx p s m meth c D mm) (hi : decode (mBytes mm) pc = .ok (.if_icmp .eq off, 3)) (h : aStep own ini (.if_icmp .eq off) pc L S z = some cf) (k : aWW p l e R s m args below meth c D mm z0 zE Q cf.1 cf.2.1 cf.2.2.1 cf.2.2.2) : aWW p l e R s m args below meth c D mm z0 zE Q pc L S z := by
  obtain ⟨x, y, S9, rfl, t, ht, ⟨q9, rfl⟩ | ⟨q9, rfl⟩⟩ := a_if2_inv h
  · exact ww_p (fun H ls locs cells slots hL q => lv_icmp_eq C.1 C.2.1 hi ht (fun _ => q) (fun z => absurd q9 z)) k
  · exact ww_p (fun H ls locs cells slots hL q => lv_icmp_eq C.1 C.2.1 hi ht (fun z => absurd z q9) (fun _ => q)) k
theorem sx_if_ne {off : Int} (C : aCx p s m meth c D mm) (hi : decode (mBytes mm) pc = .ok (.ifCond .ne off, 3)) (h : aStep own ini (.ifCond .ne off) pc L S z = some cf) (k : aWW p l e R s m args below meth c D mm z0 zE Q cf.1 cf.2.1 cf.2.2.1 cf.2.2.2) : aWW p l e R s m args below meth c D mm z0 zE Q pc L S z := by
  obtain ⟨x, S9, rfl, t, ht, ⟨q9, rfl⟩ | ⟨q9, rfl⟩⟩ := a_if1_inv h
  · exact ww_p (fun H ls locs cells slots hL q => lv_if_ne C.1 C.2.1 hi ht (fun _ => q) (fun z => absurd z q9)) k
  · exact ww_p (fun H ls locs cells slots hL q => lv_if_ne C.1 C.2.1 hi ht (fun z => absurd z q9) (fun _ => q)) k
theorem sx_icmp_ne {off : Int} (C : aCx p s m meth c D mm) (hi : decode (mBytes mm) pc = .ok (.if_icmp .ne off, 3)) (h : aStep own ini (.if_icmp .ne off) pc L S z = some cf) (k : aWW p l e R s m args below meth c D mm z0 zE Q cf.1 cf.2.1 cf.2.2.1 cf.2.2.2) : aWW p l e R s m args below meth c D mm z0 zE Q pc L S z := by
  obtain ⟨x, y, S9, rfl, t, ht, ⟨q9, rfl⟩ | ⟨q9, rfl⟩⟩ := a_if2_inv h
  · exact ww_p (fun H ls locs cells slots hL q => lv_icmp_ne C.1 C.2.1 hi ht (fun _ => q) (fun z => absurd z q9)) k
  · exact ww_p (fun H ls locs cells slots hL q => lv_icmp_ne C.1 C.2.1 hi ht (fun z => absurd z q9) (fun _ => q)) k
theorem sx_if_lt {off : Int} (C : aCx p s m meth c D mm) (hi : decode (mBytes mm) pc = .ok (.ifCond .lt off, 3)) (h : aStep own ini (.ifCond .lt off) pc L S z = some cf) (k : aWW p l e R s m args below meth c D mm z0 zE Q cf.1 cf.2.1 cf.2.2.1 cf.2.2.2) : aWW p l e R s m args below meth c D mm z0 zE Q pc L S z := by
  obtain ⟨x, S9, rfl, t, ht, ⟨q9, rfl⟩ | ⟨q9, rfl⟩⟩ := a_if1_inv h
  · exact ww_p (fun H ls locs cells slots hL q => lv_if_lt C.1 C.2.1 hi ht (fun _ => q) (fun z => absurd q9 z)) k
  · exact ww_p (fun H ls locs cells slots hL q => lv_if_lt C.1 C.2.1 hi ht (fun z => absurd z q9) (fun _ => q)) k
theorem sx_icmp_lt {off : Int} (C : aCx p s m meth c D mm) (hi : decode (mBytes mm) pc = .ok (.if_icmp .lt off, 3)) (h : aStep own ini (.if_icmp .lt off) pc L S z = some cf) (k : aWW p l e R s m args below meth c D mm z0 zE Q cf.1 cf.2.1 cf.2.2.1 cf.2.2.2) : aWW p l e R s m args below meth c D mm z0 zE Q pc L S z := by
  obtain ⟨x, y, S9, rfl, t, ht, ⟨q9, rfl⟩ | ⟨q9, rfl⟩⟩ := a_if2_inv h
  · exact ww_p (fun H ls locs cells slots hL q => lv_icmp_lt C.1 C.2.1 hi ht (fun _ => q) (fun z => absurd q9 z)) k
  · exact ww_p (fun H ls locs cells slots hL q => lv_icmp_lt C.1 C.2.1 hi ht (fun z => absurd z q9) (fun _ => q)) k
theorem sx_if_ge {off : Int} (C : aCx p s m meth c D mm) (hi : decode (mBytes mm) pc = .ok (.ifCond .ge off, 3)) (h : aStep own ini (.ifCond .ge off) pc L S z = some cf) (k : aWW p l e R s m args below meth c D mm z0 zE Q cf.1 cf.2.1 cf.2.2.1 cf.2.2.2) : aWW p l e R s m args below meth c D mm z0 zE Q pc L S z := by
  obtain ⟨x, S9, rfl, t, ht, ⟨q9, rfl⟩ | ⟨q9, rfl⟩⟩ := a_if1_inv h
  · exact ww_p (fun H ls locs cells slots hL q => lv_if_ge C.1 C.2.1 hi ht (fun _ => q) (fun z => absurd q9 z)) k
  · exact ww_p (fun H ls locs cells slots hL q => lv_if_ge C.1 C.2.1 hi ht (fun z => absurd z q9) (fun _ => q)) k
theorem sx_icmp_ge {off : Int} (C : aCx p s m meth c D mm) (hi : decode (mBytes mm) pc = .ok (.if_icmp .ge off, 3)) (h : aStep own ini (.if_icmp .ge off) pc L S z = some cf) (k : aWW p l e R s m args below meth c D mm z0 zE Q cf.1 cf.2.1 cf.2.2.1 cf.2.2.2) : aWW p l e R s m args below meth c D mm z0 zE Q pc L S z := by
  obtain ⟨x, y, S9, rfl, t, ht, ⟨q9, rfl⟩ | ⟨q9, rfl⟩⟩ := a_if2_inv h
  · exact ww_p (fun H ls locs cells slots hL q => lv_icmp_ge C.1 C.2.1 hi ht (fun _ => q) (fun z => absurd q9 z)) k
  · exact ww_p (fun H ls locs cells slots hL q => lv_icmp_ge C.1 C.2.1 hi ht (fun z => absurd z q9) (fun _ => q)) k
theorem sx_if_gt {off : Int} (C : aCx p s m meth c D mm) (hi : decode (mBytes mm) pc = .ok (.ifCond .gt off, 3)) (h : aStep own ini (.ifCond .gt off) pc L S z = some cf) (k : aWW p l e R s m args below meth c D mm z0 zE Q cf.1 cf.2.1 cf.2.2.1 cf.2.2.2) : aWW p l e R s m args below meth c D mm z0 zE Q pc L S z := by
  obtain ⟨x, S9, rfl, t, ht, ⟨q9, rfl⟩ | ⟨q9, rfl⟩⟩ := a_if1_inv h
  · exact ww_p (fun H ls locs cells slots hL q => lv_if_gt C.1 C.2.1 hi ht (fun _ => q) (fun z => absurd q9 z)) k
  · exact ww_p (fun H ls locs cells slots hL q => lv_if_gt C.1 C.2.1 hi ht (fun z => absurd z q9) (fun _ => q)) k
theorem sx_icmp_gt {off : Int} (C : aCx p s m meth c D mm) (hi : decode (mBytes mm) pc = .ok (.if_icmp .gt off, 3)) (h : aStep own ini (.if_icmp .gt off) pc L S z = some cf) (k : aWW p l e R s m args below meth c D mm z0 zE Q cf.1 cf.2.1 cf.2.2.1 cf.2.2.2) : aWW p l e R s m args below meth c D mm z0 zE Q pc L S z := by
  obtain ⟨x, y, S9, rfl, t, ht, ⟨q9, rfl⟩ | ⟨q9, rfl⟩⟩ := a_if2_inv h
  · exact ww_p (fun H ls locs cells slots hL q => lv_icmp_gt C.1 C.2.1 hi ht (fun _ => q) (fun z => absurd q9 z)) k
  · exact ww_p (fun H ls locs cells slots hL q => lv_icmp_gt C.1 C.2.1 hi ht (fun z => absurd z q9) (fun _ => q)) k
theorem sx_if_le {off : Int} (C : aCx p s m meth c D mm) (hi : decode (mBytes mm) pc = .ok (.ifCond .le off, 3)) (h : aStep own ini (.ifCond .le off) pc L S z = some cf) (k : aWW p l e R s m args below meth c D mm z0 zE Q cf.1 cf.2.1 cf.2.2.1 cf.2.2.2) : aWW p l e R s m args below meth c D mm z0 zE Q pc L S z := by
  obtain ⟨x, S9, rfl, t, ht, ⟨q9, rfl⟩ | ⟨q9, rfl⟩⟩ := a_if1_inv h
  · exact ww_p (fun H ls locs cells slots hL q => lv_if_le C.1 C.2.1 hi ht (fun _ => q) (fun z => absurd q9 z)) k
  · exact ww_p (fun H ls locs cells slots hL q => lv_if_le C.1 C.2.1 hi ht (fun z => absurd z q9) (fun _ => q)) k
theorem sx_icmp_le {off : Int} (C : aCx p s m meth c D mm) (hi : decode (mBytes mm) pc = .ok (.if_icmp .le off, 3)) (h : aStep own ini (.if_icmp .le off) pc L S z = some cf) (k : aWW p l e R s m args below meth c D mm z0 zE Q cf.1 cf.2.1 cf.2.2.1 cf.2.2.2) : aWW p l e R s m args below meth c D mm z0 zE Q pc L S z := by
  obtain ⟨x, y, S9, rfl, t, ht, ⟨q9, rfl⟩ | ⟨q9, rfl⟩⟩ := a_if2_inv h
  · exact ww_p (fun H ls locs cells slots hL q => lv_icmp_le C.1 C.2.1 hi ht (fun _ => q) (fun z => absurd q9 z)) k
  · exact ww_p (fun H ls locs cells slots hL q => lv_icmp_le C.1 C.2.1 hi ht (fun z => absurd z q9) (fun _ => q)) k
theorem sx_ifnull {off : Int} (C : aCx p s m meth c D mm) (hi : decode (mBytes mm) pc = .ok (.ifnull off, 3)) (h : aStep own ini (.ifnull off) pc L S z = some cf) (k : aWW p l e R s m args below meth c D mm z0 zE Q cf.1 cf.2.1 cf.2.2.1 cf.2.2.2) : aWW p l e R s m args below meth c D mm z0 zE Q pc L S z := by
  have h : a_inl pc off L S z = some cf := h
  unfold a_inl at h
  split at h
  · obtain ⟨t, ht, rfl⟩ := a_jp_inv h
    exact ww_p (fun H ls locs cells slots hL q => lv_ifnullN C.1 C.2.1 hi ht q) k
  · obtain rfl := Option.some.inj h
    exact ww_p (fun H ls locs cells slots hL q => lv_ifnull C.1 C.2.1 hi q) k
  · cases h
theorem sx_ifnonnull {off : Int} (C : aCx p s m meth c D mm) (hi : decode (mBytes mm) pc = .ok (.ifnonnull off, 3)) (h : aStep own ini (.ifnonnull off) pc L S z = some cf) (k : aWW p l e R s m args below meth c D mm z0 zE Q cf.1 cf.2.1 cf.2.2.1 cf.2.2.2) : aWW p l e R s m args below meth c D mm z0 zE Q pc L S z := by
  have h : a_inn pc off L S z = some cf := h
  unfold a_inn at h
  split at h
  · obtain rfl := Option.some.inj h
    exact ww_p (fun H ls locs cells slots hL q => lv_ifnonnullN C.1 C.2.1 hi q) k
  · obtain ⟨t, ht, rfl⟩ := a_jp_inv h
    exact ww_p (fun H ls locs cells slots hL q => lv_ifnonnull C.1 C.2.1 hi ht q) k
  · cases h
theorem sx_tableswitch {d lo hi9 : Int} {offs : Array Int} {len : Nat} (C : aCx p s m meth c D mm) (hi : decode (mBytes mm) pc = .ok (.tableswitch d lo hi9 offs, len)) (h : aStep own ini (.tableswitch d lo hi9 offs) pc L S z = some cf) (k : aWW p l e R s m args below meth c D mm z0 zE Q cf.1 cf.2.1 cf.2.2.1 cf.2.2.2) : aWW p l e R s m args below meth c D mm z0 zE Q pc L S z := by
  have h : a_tsw d lo hi9 offs pc L S z = some cf := h
  unfold a_tsw at h
  split at h
  · split at h
    · rename_i hc
      obtain ⟨t, ht, rfl⟩ := a_jp_inv h
      exact ww_p (fun H ls locs cells slots hL q => lv_tableOut C.1 C.2.1 hi hc ht q) k
    · rename_i hc
      split at h
      · rename_i off ho
        obtain ⟨t, ht, rfl⟩ := a_jp_inv h
        exact ww_p (fun H ls locs cells slots hL q => lv_tableIn C.1 C.2.1 hi (fun z => hc (Or.inl z)) (fun z => hc (Or.inr z)) ho ht q) k
      · cases h
  · cases h
theorem sx_lookupswitch {d : Int} {ps : Array (Int × Int)} {len : Nat} (C : aCx p s m meth c D mm) (hi : decode (mBytes mm) pc = .ok (.lookupswitch d ps, len)) (h : aStep own ini (.lookupswitch d ps) pc L S z = some cf) (k : aWW p l e R s m args below meth c D mm z0 zE Q cf.1 cf.2.1 cf.2.2.1 cf.2.2.2) : aWW p l e R s m args below meth c D mm z0 zE Q pc L S z := by
  have h : a_lsw d ps pc L S z = some cf := h
  unfold a_lsw at h
  split at h
  · split at h
    · rename_i hc
      obtain ⟨t, ht, rfl⟩ := a_jp_inv h
      exact ww_p (fun H ls locs cells slots hL q => lv_lookup C.1 C.2.1 hi hc rfl ht q) k
    · cases h
  · cases h
end PURE2
