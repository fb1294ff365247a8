/-! SOUNDNESS, 3: instructions that leave the memory as it is -/
/-- the setting of a method's walk -/
def aCx (p : Program) (s : State) (m : MethodId) (meth : Method) (c : Code) (D : aD) (mm : aMi) : Prop := p.tables.exec = Jvm.exec ∧ c.code = mBytes mm ∧ c.maxLocals = mLoc mm ∧ meth.sig.returnType = mRet mm ∧ meth.locks = false ∧ s.vm.findClass (aOwn (mOwn mm)) = some m.cls ∧ aKV D s ∧ (mIni mm = true → meth.name = "<init>")
/-- what a configuration promises: the machine comes from it to Q -/
def aWW (p : Program) (l : Launch) (e : Env) (R : Room) (s : State) (m : MethodId) (args : Array Value) (below : List Frame) (meth : Method) (c : Code) (D : aD) (mm : aMi) (z0 zE : aSt) (Q : State → Prop) : Nat → List (Option Value) → List Value → aSt → Prop := fun pc L S z =>
  gZ z ≤ gZ zE ∧ gS z ≤ gS zE ∧ ∀ (H : Heap) (ls : Array Slot) (locs : List Loc), aRep D z H → aLoc D L ls → L.length = mLoc mm → va_S (aA D) s.heap H locs → gZ z0 ≤ gZ z → gS z0 ≤ gS z →
    W p l e R s m args below meth c H locs (gZ z - gZ z0) (gS z - gS z0) Q (F0 m pc ls (S.map (aRh D)))
section PURE
variable {p : Program} {l : Launch} {e : Env} {R : Room} {s : State} {m : MethodId} {args : Array Value} {below : List Frame} {meth : Method} {c : Code} {D : aD} {mm : aMi} {z0 zE : aSt} {Q : State → Prop}
variable {pc pc' : Nat} {L : List (Option Value)} {S S' : List Value} {z : aSt} {cf : aCf}
theorem ww_p (h : ∀ (H : Heap) (ls : Array Slot) (locs : List Loc) (cells slots : Nat), aLoc D L ls → W p l e R s m args below meth c H locs cells slots Q (F0 m pc' ls (S'.map (aRh D))) → W p l e R s m args below meth c H locs cells slots Q (F0 m pc ls (S.map (aRh D))))
    (k : aWW p l e R s m args below meth c D mm z0 zE Q pc' L S' z) : aWW p l e R s m args below meth c D mm z0 zE Q pc L S z :=
  ⟨k.1, k.2.1, fun H ls locs hR hL hl hS h1 h2 => h H ls locs _ _ hL (k.2.2 H ls locs hR hL hl hS h1 h2)⟩
/-- a store to a local -/
theorem ww_l {L' : List (Option Value)} (hll : L'.length = L.length) (h : ∀ (H : Heap) (ls : Array Slot) (locs : List Loc) (cells slots : Nat), aLoc D L ls → (∀ ls' : Array Slot, aLoc D L' ls' → W p l e R s m args below meth c H locs cells slots Q (F0 m pc' ls' (S'.map (aRh D)))) → W p l e R s m args below meth c H locs cells slots Q (F0 m pc ls (S.map (aRh D))))
    (k : aWW p l e R s m args below meth c D mm z0 zE Q pc' L' S' z) : aWW p l e R s m args below meth c D mm z0 zE Q pc L S z :=
  ⟨k.1, k.2.1, fun H ls locs hR hL hl hS h1 h2 => h H ls locs _ _ hL (fun ls' hL' => k.2.2 H ls' locs hR hL' (by rw [hll]; exact hl) hS h1 h2)⟩
theorem a_ld_inv {i : Nat} {ok : Value → Bool} (h : a_ld L i ok pc' S z = some cf) : ∃ v, L[i]? = some (some v) ∧ ok v = true ∧ cf = (pc', L, v :: S, z) := by
  unfold a_ld at h
  split at h
  · rename_i v hv
    split at h
    · rename_i ho
      exact ⟨v, hv, ho, (Option.some.inj h).symm⟩
    · cases h
  · cases h
theorem a_isI_inv {v : Value} (h : a_isI v = true) : ∃ x, v = .int x := by cases v <;> first | exact ⟨_, rfl⟩ | cases h
theorem a_isL_inv {v : Value} (h : a_isL v = true) : ∃ x, v = .long x := by cases v <;> first | exact ⟨_, rfl⟩ | cases h
theorem a_isR_inv {v : Value} (h : a_isR v = true) : v = .null ∨ ∃ x, v = .ref x := by cases v <;> first | exact Or.inl rfl | exact Or.inr ⟨_, rfl⟩ | cases h
theorem a_st_inv {i : Nat} {ok : Value → Bool} (h : a_st ok L i pc' S z = some cf) : ∃ v S', S = v :: S' ∧ ok v = true ∧ i + v.category ≤ L.length ∧ cf = (pc', aSto L i v, S', z) := by
  unfold a_st at h
  split at h
  · rename_i v S'
    split at h
    · rename_i ho
      exact ⟨v, S', rfl, ho.1, ho.2, (Option.some.inj h).symm⟩
    · cases h
  · cases h
theorem a_tg {x : Int} {t : Nat} (h : x.toNat? = some t) : x = (t : Int) := by
  unfold Int.toNat? at h
  split at h
  · rename_i n hn
    cases h
    rfl
  · cases h
theorem a_jp_inv {off : Int} (h : a_jp pc off L S z = some cf) : ∃ t : Nat, (pc : Int) + off = (t : Int) ∧ cf = (t, L, S, z) := by
  unfold a_jp at h
  split at h
  · rename_i t ht
    exact ⟨t, a_tg ht, (Option.some.inj h).symm⟩
  · cases h
theorem a_br_inv {cc : Prop} [Decidable cc] {off : Int} (h : a_br cc pc off L S z = some cf) : ∃ t : Nat, (pc : Int) + off = (t : Int) ∧ ((cc ∧ cf = (t, L, S, z)) ∨ (¬ cc ∧ cf = (pc + 3, L, S, z))) := by
  unfold a_br at h
  split at h
  · rename_i t ht
    refine ⟨t, a_tg ht, ?_⟩
    split at h
    · rename_i hc
      exact Or.inl ⟨hc, (Option.some.inj h).symm⟩
    · rename_i hc
      exact Or.inr ⟨hc, (Option.some.inj h).symm⟩
  · cases h
theorem a_ii_inv {f : Int32 → Int32 → Int32} (h : a_ii f pc' L S z = some cf) : ∃ x y S', S = .int y :: .int x :: S' ∧ cf = (pc', L, .int (f x y) :: S', z) := by
  unfold a_ii at h
  split at h
  · exact ⟨_, _, _, rfl, (Option.some.inj h).symm⟩
  · cases h
theorem a_ll_inv {f : Int64 → Int64 → Int64} (h : a_ll f pc' L S z = some cf) : ∃ x y S', S = .long y :: .long x :: S' ∧ cf = (pc', L, .long (f x y) :: S', z) := by
  unfold a_ll at h
  split at h
  · exact ⟨_, _, _, rfl, (Option.some.inj h).symm⟩
  · cases h
theorem a_li_inv {f : Int64 → Int32 → Int64} (h : a_li f pc' L S z = some cf) : ∃ x y S', S = .int y :: .long x :: S' ∧ cf = (pc', L, .long (f x y) :: S', z) := by
  unfold a_li at h
  split at h
  · exact ⟨_, _, _, rfl, (Option.some.inj h).symm⟩
  · cases h
theorem a_i1_inv {f : Int32 → Value} (h : a_i1 f pc' L S z = some cf) : ∃ x S', S = .int x :: S' ∧ cf = (pc', L, f x :: S', z) := by
  unfold a_i1 at h
  split at h
  · exact ⟨_, _, rfl, (Option.some.inj h).symm⟩
  · cases h
theorem a_l1_inv {f : Int64 → Value} (h : a_l1 f pc' L S z = some cf) : ∃ x S', S = .long x :: S' ∧ cf = (pc', L, f x :: S', z) := by
  unfold a_l1 at h
  split at h
  · exact ⟨_, _, rfl, (Option.some.inj h).symm⟩
  · cases h
theorem a_if1_inv {cc : Int32 → Prop} [DecidablePred cc] {off : Int} (h : a_if1 cc pc off L S z = some cf) : ∃ x S', S = .int x :: S' ∧ ∃ t : Nat, (pc : Int) + off = (t : Int) ∧ ((cc x ∧ cf = (t, L, S', z)) ∨ (¬ cc x ∧ cf = (pc + 3, L, S', z))) := by
  unfold a_if1 at h
  split at h
  · exact ⟨_, _, rfl, a_br_inv h⟩
  · cases h
theorem a_if2_inv {cc : Int32 → Int32 → Prop} [∀ x y, Decidable (cc x y)] {off : Int} (h : a_if2 cc pc off L S z = some cf) : ∃ x y S', S = .int y :: .int x :: S' ∧ ∃ t : Nat, (pc : Int) + off = (t : Int) ∧ ((cc x y ∧ cf = (t, L, S', z)) ∨ (¬ cc x y ∧ cf = (pc + 3, L, S', z))) := by
  unfold a_if2 at h
  split at h
  · exact ⟨_, _, _, rfl, a_br_inv h⟩
  · cases h
end PURE
