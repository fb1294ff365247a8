/-! SOUNDNESS, 16: cells are never lost; every instruction (by program) -/
set_option maxRecDepth 100000
def aMo (z : aSt) (cf : aCf) : Prop := gZ z ≤ gZ cf.2.2.2 ∧ gS z ≤ gS cf.2.2.2
section MONO
variable {pc pc' : Nat} {L : List (Option Value)} {S : List Value} {z : aSt} {cf : aCf} {own : Nat} {ini : Bool}
theorem mo_jp {off : Int} (h : a_jp pc off L S z = some cf) : aMo z cf := by
  unfold a_jp at h
  repeat' split at h
  all_goals first | (cases h; done) | (obtain rfl := Option.some.inj h; exact ⟨Nat.le_refl _, Nat.le_refl _⟩)
theorem mo_br {c : Prop} [Decidable c] {off : Int} (h : a_br c pc off L S z = some cf) : aMo z cf := by
  unfold a_br at h
  repeat' split at h
  all_goals first | (cases h; done) | (obtain rfl := Option.some.inj h; exact ⟨Nat.le_refl _, Nat.le_refl _⟩)
theorem mo_ld {i : Nat} {ok : Value → Bool} (h : a_ld L i ok pc S z = some cf) : aMo z cf := by
  unfold a_ld at h
  repeat' split at h
  all_goals first | (cases h; done) | (obtain rfl := Option.some.inj h; exact ⟨Nat.le_refl _, Nat.le_refl _⟩)
theorem mo_st {i : Nat} {ok : Value → Bool} (h : a_st ok L i pc S z = some cf) : aMo z cf := by
  unfold a_st at h
  repeat' split at h
  all_goals first | (cases h; done) | (obtain rfl := Option.some.inj h; exact ⟨Nat.le_refl _, Nat.le_refl _⟩)
theorem mo_ii {f : Int32 → Int32 → Int32} (h : a_ii f pc L S z = some cf) : aMo z cf := by
  unfold a_ii at h
  repeat' split at h
  all_goals first | (cases h; done) | (obtain rfl := Option.some.inj h; exact ⟨Nat.le_refl _, Nat.le_refl _⟩)
theorem mo_ll {f : Int64 → Int64 → Int64} (h : a_ll f pc L S z = some cf) : aMo z cf := by
  unfold a_ll at h
  repeat' split at h
  all_goals first | (cases h; done) | (obtain rfl := Option.some.inj h; exact ⟨Nat.le_refl _, Nat.le_refl _⟩)
theorem mo_li {f : Int64 → Int32 → Int64} (h : a_li f pc L S z = some cf) : aMo z cf := by
  unfold a_li at h
  repeat' split at h
  all_goals first | (cases h; done) | (obtain rfl := Option.some.inj h; exact ⟨Nat.le_refl _, Nat.le_refl _⟩)
theorem mo_i1 {f : Int32 → Value} (h : a_i1 f pc L S z = some cf) : aMo z cf := by
  unfold a_i1 at h
  repeat' split at h
  all_goals first | (cases h; done) | (obtain rfl := Option.some.inj h; exact ⟨Nat.le_refl _, Nat.le_refl _⟩)
theorem mo_l1 {f : Int64 → Value} (h : a_l1 f pc L S z = some cf) : aMo z cf := by
  unfold a_l1 at h
  repeat' split at h
  all_goals first | (cases h; done) | (obtain rfl := Option.some.inj h; exact ⟨Nat.le_refl _, Nat.le_refl _⟩)
theorem mo_al {ts : List Nat} (h : a_al ts pc L S z = some cf) : aMo z cf := by
  unfold a_al at h
  repeat' split at h
  all_goals first | (cases h; done) | (obtain rfl := Option.some.inj h; exact ⟨Nat.le_refl _, Nat.le_refl _⟩)
theorem mo_as {t : Nat} {f : Int32 → Int32} (h : a_as t f pc L S z = some cf) : aMo z cf := by
  unfold a_as at h
  repeat' split at h
  all_goals first | (cases h; done) | (obtain rfl := Option.some.inj h; exact ⟨Nat.le_refl _, Nat.le_refl _⟩)
theorem mo_asl  (h : a_asl pc L S z = some cf) : aMo z cf := by
  unfold a_asl at h
  repeat' split at h
  all_goals first | (cases h; done) | (obtain rfl := Option.some.inj h; exact ⟨Nat.le_refl _, Nat.le_refl _⟩)
theorem mo_asr  (h : a_asr pc L S z = some cf) : aMo z cf := by
  unfold a_asr at h
  repeat' split at h
  all_goals first | (cases h; done) | (obtain rfl := Option.some.inj h; exact ⟨Nat.le_refl _, Nat.le_refl _⟩)
theorem mo_dup  (h : a_dup pc L S z = some cf) : aMo z cf := by
  unfold a_dup at h
  repeat' split at h
  all_goals first | (cases h; done) | (obtain rfl := Option.some.inj h; exact ⟨Nat.le_refl _, Nat.le_refl _⟩)
theorem mo_pop  (h : a_pop pc L S z = some cf) : aMo z cf := by
  unfold a_pop at h
  repeat' split at h
  all_goals first | (cases h; done) | (obtain rfl := Option.some.inj h; exact ⟨Nat.le_refl _, Nat.le_refl _⟩)
theorem mo_dupx1  (h : a_dupx1 pc L S z = some cf) : aMo z cf := by
  unfold a_dupx1 at h
  repeat' split at h
  all_goals first | (cases h; done) | (obtain rfl := Option.some.inj h; exact ⟨Nat.le_refl _, Nat.le_refl _⟩)
theorem mo_dup2  (h : a_dup2 pc L S z = some cf) : aMo z cf := by
  unfold a_dup2 at h
  repeat' split at h
  all_goals first | (cases h; done) | (obtain rfl := Option.some.inj h; exact ⟨Nat.le_refl _, Nat.le_refl _⟩)
theorem mo_len  (h : a_len pc L S z = some cf) : aMo z cf := by
  unfold a_len at h
  repeat' split at h
  all_goals first | (cases h; done) | (obtain rfl := Option.some.inj h; exact ⟨Nat.le_refl _, Nat.le_refl _⟩)
theorem mo_get {idx : Nat} (h : a_get own idx pc L S z = some cf) : aMo z cf := by
  unfold a_get at h
  repeat' split at h
  all_goals first | (cases h; done) | (obtain rfl := Option.some.inj h; exact ⟨Nat.le_refl _, Nat.le_refl _⟩)
theorem mo_cast {idx : Nat} (h : a_cast own idx pc L S z = some cf) : aMo z cf := by
  unfold a_cast at h
  repeat' split at h
  all_goals first | (cases h; done) | (obtain rfl := Option.some.inj h; exact ⟨Nat.le_refl _, Nat.le_refl _⟩)
theorem mo_iinc {i : Nat} {n : Int} (h : a_iinc i n pc L S z = some cf) : aMo z cf := by
  unfold a_iinc at h
  repeat' split at h
  all_goals first | (cases h; done) | (obtain rfl := Option.some.inj h; exact ⟨Nat.le_refl _, Nat.le_refl _⟩)
theorem mo_obj {idx : Nat} (h : a_obj own idx pc L S z = some cf) : aMo z cf := by
  unfold a_obj at h
  repeat' split at h
  all_goals first | (cases h; done) | (obtain rfl := Option.some.inj h; exact ⟨Nat.le_refl _, Nat.le_refl _⟩)
theorem mo_acp  (h : a_acp pc L S z = some cf) : aMo z cf := by
  unfold a_acp at h
  repeat' split at h
  all_goals first | (cases h; done) | (obtain rfl := Option.some.inj h; exact ⟨Nat.le_refl _, Nat.le_refl _⟩)
theorem mo_gcl  (h : a_gcl pc L S z = some cf) : aMo z cf := by
  unfold a_gcl at h
  repeat' split at h
  all_goals first | (cases h; done) | (obtain rfl := Option.some.inj h; exact ⟨Nat.le_refl _, Nat.le_refl _⟩)
theorem mo_chx  (h : a_chx pc L S z = some cf) : aMo z cf := by
  unfold a_chx at h
  repeat' split at h
  all_goals first | (cases h; done) | (obtain rfl := Option.some.inj h; exact ⟨Nat.le_refl _, Nat.le_refl _⟩)
theorem mo_dv {f : Int32 → Int32 → Int32} (h : a_dv f pc L S z = some cf) : aMo z cf := by
  unfold a_dv at h
  repeat' split at h
  all_goals first | (cases h; done) | (obtain rfl := Option.some.inj h; exact ⟨Nat.le_refl _, Nat.le_refl _⟩)
theorem mo_lcm  (h : a_lcm pc L S z = some cf) : aMo z cf := by
  unfold a_lcm at h
  repeat' split at h
  all_goals first | (cases h; done) | (obtain rfl := Option.some.inj h; exact ⟨Nat.le_refl _, Nat.le_refl _⟩)
theorem mo_cst {o : Option Value} (h : a_cst o pc L S z = some cf) : aMo z cf := by
  unfold a_cst at h
  repeat' split at h
  all_goals first | (cases h; done) | (obtain rfl := Option.some.inj h; exact ⟨Nat.le_refl _, Nat.le_refl _⟩)
theorem mo_mth {f : Int32 → Int32 → Int32} (h : a_mth f pc L S z = some cf) : aMo z cf := by
  unfold a_mth at h
  repeat' split at h
  all_goals first | (cases h; done) | (obtain rfl := Option.some.inj h; exact ⟨Nat.le_refl _, Nat.le_refl _⟩)
theorem mo_ord  (h : a_ord pc L S z = some cf) : aMo z cf := by
  unfold a_ord at h
  repeat' split at h
  all_goals first | (cases h; done) | (obtain rfl := Option.some.inj h; exact ⟨Nat.le_refl _, Nat.le_refl _⟩)
theorem mo_if1 {c : Int32 → Prop} [DecidablePred c] {off : Int} (h : a_if1 c pc off L S z = some cf) : aMo z cf := by
  unfold a_if1 at h
  repeat' split at h
  all_goals first | (cases h; done) | (obtain rfl := Option.some.inj h; exact ⟨Nat.le_refl _, Nat.le_refl _⟩) | exact mo_br h
theorem mo_if2 {c : Int32 → Int32 → Prop} [∀ x y, Decidable (c x y)] {off : Int} (h : a_if2 c pc off L S z = some cf) : aMo z cf := by
  unfold a_if2 at h
  repeat' split at h
  all_goals first | (cases h; done) | (obtain rfl := Option.some.inj h; exact ⟨Nat.le_refl _, Nat.le_refl _⟩) | exact mo_br h
theorem mo_ifa {eq : Bool} {off : Int} (h : a_ifa eq pc off L S z = some cf) : aMo z cf := by
  unfold a_ifa at h
  repeat' split at h
  all_goals first | (cases h; done) | (obtain rfl := Option.some.inj h; exact ⟨Nat.le_refl _, Nat.le_refl _⟩) | exact mo_br h
theorem mo_tsw {d lo hi : Int} {offs : Array Int} (h : a_tsw d lo hi offs pc L S z = some cf) : aMo z cf := by
  unfold a_tsw at h
  repeat' split at h
  all_goals first | (cases h; done) | (obtain rfl := Option.some.inj h; exact ⟨Nat.le_refl _, Nat.le_refl _⟩) | exact mo_jp h
theorem mo_lsw {d : Int} {ps : Array (Int × Int)} (h : a_lsw d ps pc L S z = some cf) : aMo z cf := by
  unfold a_lsw at h
  repeat' split at h
  all_goals first | (cases h; done) | (obtain rfl := Option.some.inj h; exact ⟨Nat.le_refl _, Nat.le_refl _⟩) | exact mo_jp h
theorem mo_inl {off : Int} (h : a_inl pc off L S z = some cf) : aMo z cf := by
  unfold a_inl at h
  repeat' split at h
  all_goals first | (cases h; done) | (obtain rfl := Option.some.inj h; exact ⟨Nat.le_refl _, Nat.le_refl _⟩) | exact mo_jp h
theorem mo_inn {off : Int} (h : a_inn pc off L S z = some cf) : aMo z cf := by
  unfold a_inn at h
  repeat' split at h
  all_goals first | (cases h; done) | (obtain rfl := Option.some.inj h; exact ⟨Nat.le_refl _, Nat.le_refl _⟩) | exact mo_jp h
theorem mo_bas  (h : a_bas pc L S z = some cf) : aMo z cf := by
  unfold a_bas at h
  repeat' split at h
  all_goals first | (cases h; done) | (obtain rfl := Option.some.inj h; exact ⟨Nat.le_refl _, Nat.le_refl _⟩) | exact mo_as h
theorem mo_new {t n sl : Nat} (h : a_new t n sl pc L S z = some cf) : aMo z cf := by
  obtain rfl := Option.some.inj h
  exact ⟨Nat.le_succ _, Nat.le_add_right _ _⟩
theorem mo_newa {t : Nat} (h : a_newa t pc L S z = some cf) : aMo z cf := by
  unfold a_newa at h
  repeat' split at h
  all_goals first | (cases h; done) | (obtain rfl := Option.some.inj h; exact ⟨Nat.le_refl _, Nat.le_refl _⟩) | exact mo_new h
theorem mo_nwo {o : Option (Nat × Nat)} (h : a_nwo o pc L S z = some cf) : aMo z cf := by
  unfold a_nwo at h
  repeat' split at h
  all_goals first | (cases h; done) | (obtain rfl := Option.some.inj h; exact ⟨Nat.le_refl _, Nat.le_refl _⟩) | exact mo_new h
theorem mo_nwa {o : Option Nat} (h : a_nwa o pc L S z = some cf) : aMo z cf := by
  unfold a_nwa at h
  repeat' split at h
  all_goals first | (cases h; done) | (obtain rfl := Option.some.inj h; exact ⟨Nat.le_refl _, Nat.le_refl _⟩) | exact mo_newa h
theorem mo_ist {idx : Nat} (h : a_ist own idx pc L S z = some cf) : aMo z cf := by
  unfold a_ist at h
  repeat' split at h
  all_goals first | (cases h; done) | (obtain rfl := Option.some.inj h; exact ⟨Nat.le_refl _, Nat.le_refl _⟩) | exact mo_acp h | exact mo_chx h | exact mo_mth h
theorem mo_ivi {idx : Nat} (h : a_ivi own idx pc L S z = some cf) : aMo z cf := by
  unfold a_ivi at h
  repeat' split at h
  all_goals first | (cases h; done) | (obtain rfl := Option.some.inj h; exact ⟨Nat.le_refl _, Nat.le_refl _⟩) | exact mo_ord h | exact mo_gcl h
theorem mo_put {idx : Nat} (h : a_put own idx pc ini L S z = some cf) : aMo z cf := by
  obtain ⟨v, a, S9, t, j, n, z', rfl, hf, hT, ha, hmay, hput, rfl⟩ := a_put_inv h
  obtain ⟨-, -, -, -, -, -, n5, n6, -⟩ := aPut_inv (D := ((fun _ => 0), (fun _ _ => 0), (fun _ => 0), 0)) hput
  exact ⟨Nat.le_of_eq n5.symm, Nat.le_of_eq n6.symm⟩
theorem aStep_mono {i : Instr} (h : aStep own ini i pc L S z = some cf) : aMo z cf := by
  unfold aStep at h
  split at h
  · (obtain rfl := Option.some.inj h; exact ⟨Nat.le_refl _, Nat.le_refl _⟩)
  · (obtain rfl := Option.some.inj h; exact ⟨Nat.le_refl _, Nat.le_refl _⟩)
  · (obtain rfl := Option.some.inj h; exact ⟨Nat.le_refl _, Nat.le_refl _⟩)
  · (obtain rfl := Option.some.inj h; exact ⟨Nat.le_refl _, Nat.le_refl _⟩)
  · (obtain rfl := Option.some.inj h; exact ⟨Nat.le_refl _, Nat.le_refl _⟩)
  · exact mo_ld h
  · exact mo_ld h
  · exact mo_ld h
  · exact mo_ld h
  · exact mo_ld h
  · exact mo_ld h
  · exact mo_st h
  · exact mo_st h
  · exact mo_st h
  · exact mo_st h
  · exact mo_st h
  · exact mo_st h
  · exact mo_iinc h
  · exact mo_ii h
  · exact mo_ii h
  · exact mo_ii h
  · exact mo_ii h
  · exact mo_ii h
  · exact mo_ii h
  · exact mo_ii h
  · exact mo_ii h
  · exact mo_ii h
  · exact mo_dv h
  · exact mo_dv h
  · exact mo_i1 h
  · exact mo_i1 h
  · exact mo_i1 h
  · exact mo_i1 h
  · exact mo_l1 h
  · exact mo_ll h
  · exact mo_ll h
  · exact mo_li h
  · exact mo_li h
  · exact mo_li h
  · exact mo_lcm h
  · exact mo_dup h
  · exact mo_pop h
  · exact mo_dupx1 h
  · exact mo_dup2 h
  · exact mo_jp h
  · exact mo_if1 h
  · exact mo_if1 h
  · exact mo_if1 h
  · exact mo_if1 h
  · exact mo_if1 h
  · exact mo_if1 h
  · exact mo_if2 h
  · exact mo_if2 h
  · exact mo_if2 h
  · exact mo_if2 h
  · exact mo_if2 h
  · exact mo_if2 h
  · exact mo_ifa h
  · exact mo_ifa h
  · exact mo_inl h
  · exact mo_inn h
  · exact mo_al h
  · exact mo_al h
  · exact mo_al h
  · exact mo_al h
  · exact mo_al h
  · exact mo_as h
  · exact mo_as h
  · exact mo_bas h
  · exact mo_asl h
  · exact mo_asr h
  · exact mo_len h
  · exact mo_get h
  · exact mo_put h
  · exact mo_cst h
  · exact mo_cst h
  · exact mo_cst h
  · exact mo_nwo h
  · exact mo_newa h
  · exact mo_newa h
  · exact mo_newa h
  · exact mo_newa h
  · exact mo_newa h
  · exact mo_nwa h
  · exact mo_cast h
  · exact mo_tsw h
  · exact mo_lsw h
  · exact mo_obj h
  · exact mo_ist h
  · exact mo_ivi h
  · cases h
end MONO
section DISP
variable {p : Program} {l : Launch} {e : Env} {R : Room} {s : State} {m : MethodId} {args : Array Value} {below : List Frame} {meth : Method} {c : Code} {D : aD} {mm : aMi} {z0 zE : aSt} {Q : State → Prop}
variable {pc : Nat} {L : List (Option Value)} {S : List Value} {z : aSt} {cf : aCf}
theorem sx_ist {idx : Nat} (C : aCx p s m meth c D mm) (hcel : gZ zE - gZ z0 ≤ R.cells) (hslo : gS zE - gS z0 ≤ R.slots) (hf : 8 ≤ R.frames) (hlo : 200 ≤ R.locals) (hi : decode (mBytes mm) pc = .ok (.invokestatic idx, 3)) (h : a_ist (mOwn mm) idx (pc + 3) L S z = some cf) (k : aWW p l e R s m args below meth c D mm z0 zE Q cf.1 cf.2.1 cf.2.2.1 cf.2.2.2) : aWW p l e R s m args below meth c D mm z0 zE Q pc L S z := by
  have K := C.2.2.2.2.2.2.1
  unfold a_ist at h
  split at h
  · rename_i hw
    exact sx_acp C hf hlo hi hw h k
  · split at h
    · rename_i hw
      exact sx_chx C hcel hslo hf hlo hi hw h k
    · split at h
      · rename_i hw
        exact sx_mth C h (fun x y S9 H ls locs cells slots h9 hc hs hml q => va_mmax C.1 C.2.1 hml C.2.2.2.2.2.1 (K.word (aMax_ok hw) args) (K.word q460 args) (K.word q83 args) (K.word q461 args) (by omega) (by have := aRh_cats D S9; omega) hc hs hi q) hcel hslo k
      · split at h
        · rename_i hw
          exact sx_mth C h (fun x y S9 H ls locs cells slots h9 hc hs hml q => va_mmin C.1 C.2.1 hml C.2.2.2.2.2.1 (K.word (aMin_ok hw) args) (K.word q478 args) (K.word q83 args) (K.word q479 args) (by omega) (by have := aRh_cats D S9; omega) hc hs hi q) hcel hslo k
        · cases h
theorem sx_ivi {idx : Nat} (C : aCx p s m meth c D mm) (hcel : gZ zE - gZ z0 ≤ R.cells) (hslo : gS zE - gS z0 ≤ R.slots) (hf : 8 ≤ R.frames) (hlo : 200 ≤ R.locals) (hi : decode (mBytes mm) pc = .ok (.invokevirtual idx, 3)) (h : a_ivi (mOwn mm) idx (pc + 3) L S z = some cf) (k : aWW p l e R s m args below meth c D mm z0 zE Q cf.1 cf.2.1 cf.2.2.1 cf.2.2.2) : aWW p l e R s m args below meth c D mm z0 zE Q pc L S z := by
  unfold a_ivi at h
  split at h
  · rename_i hw
    exact sx_ord C hcel hslo hf hlo hi hw h k
  · split at h
    · rename_i hw
      exact sx_gcl C hf hlo hi hw h k
    · cases h
theorem sx_all {i : Instr} (C : aCx p s m meth c D mm) (hk : aChk mm = true) (hcel : gZ zE - gZ z0 ≤ R.cells) (hslo : gS zE - gS z0 ≤ R.slots) (hf : 8 ≤ R.frames) (hlo : 200 ≤ R.locals) (ha : aAt mm pc = some i) (h : aStep (mOwn mm) (mIni mm) i pc L S z = some cf) (k : aWW p l e R s m args below meth c D mm z0 zE Q cf.1 cf.2.1 cf.2.2.1 cf.2.2.2) : aWW p l e R s m args below meth c D mm z0 zE Q pc L S z := by
  unfold aStep at h
  split at h
  · exact sx_iconst (own := mOwn mm) (ini := mIni mm) C (a_dec' hk ha rfl) h k
  · exact sx_bipush (own := mOwn mm) (ini := mIni mm) C (a_dec' hk ha rfl) h k
  · exact sx_sipush (own := mOwn mm) (ini := mIni mm) C (a_dec' hk ha rfl) h k
  · exact sx_lconst (own := mOwn mm) (ini := mIni mm) C (a_dec' hk ha rfl) h k
  · exact sx_aconst_null (own := mOwn mm) (ini := mIni mm) C (a_dec' hk ha rfl) h k
  · exact sx_iload_n (own := mOwn mm) (ini := mIni mm) C (a_dec' hk ha rfl) h k
  · exact sx_iload (own := mOwn mm) (ini := mIni mm) C (a_dec' hk ha rfl) h k
  · exact sx_lload_n (own := mOwn mm) (ini := mIni mm) C (a_dec' hk ha rfl) h k
  · exact sx_lload (own := mOwn mm) (ini := mIni mm) C (a_dec' hk ha rfl) h k
  · exact sx_aload_n (own := mOwn mm) (ini := mIni mm) C (a_dec' hk ha rfl) h k
  · exact sx_aload (own := mOwn mm) (ini := mIni mm) C (a_dec' hk ha rfl) h k
  · exact sx_istore_n (own := mOwn mm) (ini := mIni mm) C (a_dec' hk ha rfl) h k
  · exact sx_istore (own := mOwn mm) (ini := mIni mm) C (a_dec' hk ha rfl) h k
  · exact sx_lstore_n (own := mOwn mm) (ini := mIni mm) C (a_dec' hk ha rfl) h k
  · exact sx_lstore (own := mOwn mm) (ini := mIni mm) C (a_dec' hk ha rfl) h k
  · exact sx_astore_n (own := mOwn mm) (ini := mIni mm) C (a_dec' hk ha rfl) h k
  · exact sx_astore (own := mOwn mm) (ini := mIni mm) C (a_dec' hk ha rfl) h k
  · exact sx_iinc (own := mOwn mm) (ini := mIni mm) C (a_dec' hk ha rfl) h k
  · exact sx_iadd (own := mOwn mm) (ini := mIni mm) C (a_dec' hk ha rfl) h k
  · exact sx_isub (own := mOwn mm) (ini := mIni mm) C (a_dec' hk ha rfl) h k
  · exact sx_imul (own := mOwn mm) (ini := mIni mm) C (a_dec' hk ha rfl) h k
  · exact sx_iand (own := mOwn mm) (ini := mIni mm) C (a_dec' hk ha rfl) h k
  · exact sx_ior (own := mOwn mm) (ini := mIni mm) C (a_dec' hk ha rfl) h k
  · exact sx_ixor (own := mOwn mm) (ini := mIni mm) C (a_dec' hk ha rfl) h k
  · exact sx_ishl (own := mOwn mm) (ini := mIni mm) C (a_dec' hk ha rfl) h k
  · exact sx_ishr (own := mOwn mm) (ini := mIni mm) C (a_dec' hk ha rfl) h k
  · exact sx_iushr (own := mOwn mm) (ini := mIni mm) C (a_dec' hk ha rfl) h k
  · exact sx_idiv (own := mOwn mm) (ini := mIni mm) C (a_dec' hk ha rfl) h k
  · exact sx_irem (own := mOwn mm) (ini := mIni mm) C (a_dec' hk ha rfl) h k
  · exact sx_ineg (own := mOwn mm) (ini := mIni mm) C (a_dec' hk ha rfl) h k
  · exact sx_i2l (own := mOwn mm) (ini := mIni mm) C (a_dec' hk ha rfl) h k
  · exact sx_i2b (own := mOwn mm) (ini := mIni mm) C (a_dec' hk ha rfl) h k
  · exact sx_i2c (own := mOwn mm) (ini := mIni mm) C (a_dec' hk ha rfl) h k
  · exact sx_l2i (own := mOwn mm) (ini := mIni mm) C (a_dec' hk ha rfl) h k
  · exact sx_land (own := mOwn mm) (ini := mIni mm) C (a_dec' hk ha rfl) h k
  · exact sx_lor (own := mOwn mm) (ini := mIni mm) C (a_dec' hk ha rfl) h k
  · exact sx_lshl (own := mOwn mm) (ini := mIni mm) C (a_dec' hk ha rfl) h k
  · exact sx_lshr (own := mOwn mm) (ini := mIni mm) C (a_dec' hk ha rfl) h k
  · exact sx_lushr (own := mOwn mm) (ini := mIni mm) C (a_dec' hk ha rfl) h k
  · exact sx_lcmp (own := mOwn mm) (ini := mIni mm) C (a_dec' hk ha rfl) h k
  · exact sx_dup (own := mOwn mm) (ini := mIni mm) C (a_dec' hk ha rfl) h k
  · exact sx_pop (own := mOwn mm) (ini := mIni mm) C (a_dec' hk ha rfl) h k
  · exact sx_dup_x1 (own := mOwn mm) (ini := mIni mm) C (a_dec' hk ha rfl) h k
  · exact sx_dup2 (own := mOwn mm) (ini := mIni mm) C (a_dec' hk ha rfl) h k
  · exact sx_goto (own := mOwn mm) (ini := mIni mm) C (a_dec' hk ha rfl) h k
  · exact sx_if_eq (own := mOwn mm) (ini := mIni mm) C (a_dec' hk ha rfl) h k
  · exact sx_if_ne (own := mOwn mm) (ini := mIni mm) C (a_dec' hk ha rfl) h k
  · exact sx_if_lt (own := mOwn mm) (ini := mIni mm) C (a_dec' hk ha rfl) h k
  · exact sx_if_ge (own := mOwn mm) (ini := mIni mm) C (a_dec' hk ha rfl) h k
  · exact sx_if_gt (own := mOwn mm) (ini := mIni mm) C (a_dec' hk ha rfl) h k
  · exact sx_if_le (own := mOwn mm) (ini := mIni mm) C (a_dec' hk ha rfl) h k
  · exact sx_icmp_eq (own := mOwn mm) (ini := mIni mm) C (a_dec' hk ha rfl) h k
  · exact sx_icmp_ne (own := mOwn mm) (ini := mIni mm) C (a_dec' hk ha rfl) h k
  · exact sx_icmp_lt (own := mOwn mm) (ini := mIni mm) C (a_dec' hk ha rfl) h k
  · exact sx_icmp_ge (own := mOwn mm) (ini := mIni mm) C (a_dec' hk ha rfl) h k
  · exact sx_icmp_gt (own := mOwn mm) (ini := mIni mm) C (a_dec' hk ha rfl) h k
  · exact sx_icmp_le (own := mOwn mm) (ini := mIni mm) C (a_dec' hk ha rfl) h k
  · exact sx_acmp_eq (own := mOwn mm) (ini := mIni mm) C (a_dec' hk ha rfl) h k
  · exact sx_acmp_ne (own := mOwn mm) (ini := mIni mm) C (a_dec' hk ha rfl) h k
  · exact sx_ifnull (own := mOwn mm) (ini := mIni mm) C (a_dec' hk ha rfl) h k
  · exact sx_ifnonnull (own := mOwn mm) (ini := mIni mm) C (a_dec' hk ha rfl) h k
  · exact sx_iaload (own := mOwn mm) (ini := mIni mm) C (a_dec' hk ha rfl) h k
  · exact sx_caload (own := mOwn mm) (ini := mIni mm) C (a_dec' hk ha rfl) h k
  · exact sx_baload (own := mOwn mm) (ini := mIni mm) C (a_dec' hk ha rfl) h k
  · exact sx_laload (own := mOwn mm) (ini := mIni mm) C (a_dec' hk ha rfl) h k
  · exact sx_aaload (own := mOwn mm) (ini := mIni mm) C (a_dec' hk ha rfl) h k
  · exact sx_iastore (own := mOwn mm) (ini := mIni mm) C (a_dec' hk ha rfl) h k
  · exact sx_castore (own := mOwn mm) (ini := mIni mm) C (a_dec' hk ha rfl) h k
  · exact sx_bastore (own := mOwn mm) (ini := mIni mm) C (a_dec' hk ha rfl) h k
  · exact sx_lastore (own := mOwn mm) (ini := mIni mm) C (a_dec' hk ha rfl) h k
  · exact sx_aastore (own := mOwn mm) (ini := mIni mm) C (a_dec' hk ha rfl) h k
  · exact sx_arraylength (own := mOwn mm) (ini := mIni mm) C (a_dec' hk ha rfl) h k
  · exact sx_getfield (ini := mIni mm) C (a_dec' hk ha rfl) h k
  · exact sx_putfield C (a_dec' hk ha rfl) h k
  · exact sx_getstatic (ini := mIni mm) C (a_dec' hk ha rfl) h k
  · exact sx_ldc (ini := mIni mm) C (a_dec' hk ha rfl) h k
  · exact sx_ldc2_w (ini := mIni mm) C (a_dec' hk ha rfl) h k
  · exact sx_new (ini := mIni mm) C hcel hslo (a_dec' hk ha rfl) h k
  · exact sx_newa C hcel hslo (t := 40) (at9 := .int) rfl q188 (by decide +kernel) (by decide) (by decide) (a_dec' hk ha rfl) h k
  · exact sx_newa C hcel hslo (t := 41) (at9 := .char) rfl q141 (by decide +kernel) (by decide) (by decide) (a_dec' hk ha rfl) h k
  · exact sx_newa C hcel hslo (t := 42) (at9 := .boolean) rfl q189 (by decide +kernel) (by decide) (by decide) (a_dec' hk ha rfl) h k
  · exact sx_newa C hcel hslo (t := 43) (at9 := .byte) rfl q376 (by decide +kernel) (by decide) (by decide) (a_dec' hk ha rfl) h k
  · exact sx_newa C hcel hslo (t := 44) (at9 := .long) rfl q1406 (by decide +kernel) (by decide) (by decide) (a_dec' hk ha rfl) h k
  · exact sx_anewarray (ini := mIni mm) C hcel hslo (a_dec' hk ha rfl) h k
  · exact sx_checkcast (ini := mIni mm) C (a_dec' hk ha rfl) h k
  · obtain ⟨n9, hd9, -⟩ := a_dec hk ha
    exact sx_tableswitch (own := mOwn mm) (ini := mIni mm) C hd9 h k
  · obtain ⟨n9, hd9, -⟩ := a_dec hk ha
    exact sx_lookupswitch (own := mOwn mm) (ini := mIni mm) C hd9 h k
  · exact sx_obj C hf hlo (a_dec' hk ha rfl) h k
  · exact sx_ist C hcel hslo hf hlo (a_dec' hk ha rfl) h k
  · exact sx_ivi C hcel hslo hf hlo (a_dec' hk ha rfl) h k
  · cases h
end DISP
