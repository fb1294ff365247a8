/-! SOUNDNESS, 5: the memory -/
theorem gI_sI (z : aSt) (a k : Nat) (v : Int32) (b j : Nat) : gI (sI z a k v) b j = if b = a then (if j = k then v else gI z b j) else gI z b j := rfl
theorem gL_sL (z : aSt) (a k : Nat) (v : Int64) (b j : Nat) : gL (sL z a k v) b j = if b = a then (if j = k then v else gL z b j) else gL z b j := rfl
theorem gR_sR (z : aSt) (a k : Nat) (v : Option Nat) (b j : Nat) : gR (sR z a k v) b j = if b = a then (if j = k then v else gR z b j) else gR z b j := rfl
theorem a_up_ne {α : Type} {f : Nat → Nat → α} {a k b j : Nat} {v : α} (h : b ≠ a ∨ j ≠ k) : a_up f a k v b j = f b j := by
  unfold a_up
  rcases h with h | h
  · rw [if_neg h]
  · rw [if_neg h, ite_self]
theorem a_up_eq {α : Type} {f : Nat → Nat → α} {a k : Nat} {v : α} : a_up f a k v a k = v := by
  unfold a_up
  rw [if_pos rfl, if_pos rfl]
theorem aVal_sI {z : aSt} {a k : Nat} {v : Int32} {t b j : Nat} (h : b ≠ a ∨ j ≠ k) : aVal (sI z a k v) t b j = aVal z t b j := by
  have e : gI (sI z a k v) b j = gI z b j := a_up_ne h
  unfold aVal
  rw [e]
  rfl
theorem aVal_sL {z : aSt} {a k : Nat} {v : Int64} {t b j : Nat} (h : b ≠ a ∨ j ≠ k) : aVal (sL z a k v) t b j = aVal z t b j := by
  have e : gL (sL z a k v) b j = gL z b j := a_up_ne h
  unfold aVal
  rw [e]
  rfl
theorem aVal_sR {z : aSt} {a k : Nat} {v : Option Nat} {t b j : Nat} (h : b ≠ a ∨ j ≠ k) : aVal (sR z a k v) t b j = aVal z t b j := by
  have e : gR (sR z a k v) b j = gR z b j := a_up_ne h
  unfold aVal
  rw [e]
  rfl
/-- one place of one cell is written -/
theorem aRep.put {D : aD} {z z' : aSt} {H H' : Heap} {a t n k : Nat} {cell : Cell} {w : Value} (hR : aRep D z H) (ha : 100 ≤ a) (hT : gT z a = (t, n)) (ht : t < 60) (hk : k < aNp t n) (hcell : H[aMu D a]? = some cell)
    (hin : ∀ j, j < aNp t n → j ≠ k → aSl D t k ≠ aSl D t j) (h1 : H'[aMu D a]? = some (cell.setSlot (aSl D t k) w)) (h2 : H'.size = H.size) (h3 : ∀ q, q ≠ aMu D a → H'[q]? = H[q]?)
    (e1 : gT z' = gT z) (e2 : gZ z' = gZ z) (e3 : aRh D (aVal z' t a k) = w) (e4 : ∀ t b j, b ≠ a ∨ j ≠ k → aVal z' t b j = aVal z t b j) : aRep D z' H' := by
  obtain ⟨r1, r2, r3⟩ := hR
  refine ⟨by rw [h2, r1, e2], by rw [e1]; exact r2, fun b t' n' hb ht' => ?_⟩
  rw [e1] at hb
  rw [e2]
  obtain ⟨q1, cb, q2, q3, q4⟩ := r3 b t' n' hb ht'
  refine ⟨q1, ?_⟩
  by_cases hba : b = a
  · subst hba
    rw [hT] at hb
    cases hb
    cases hcell.symm.trans q2
    refine ⟨_, h1, ?_, fun j hj => ?_⟩
    · obtain ⟨p1, p2, p3, p4, p5⟩ := q3
      exact ⟨p1, p2, p3, p4, fun h => by rw [k2_slotsz]; exact p5 h⟩
    · by_cases hjk : j = k
      · subst hjk
        rw [Cell.slots_setSlot_self _ (k2_hasslot (q4 j hj)), e3]
      · rw [Cell.slots_setSlot_ne _ (hin j hj hjk), q4 j hj, e4 _ _ _ (Or.inr hjk)]
  · refine ⟨cb, ?_, q3, fun j hj => ?_⟩
    · rw [h3 _ (aMu_ne (fun hb9 => r2 b hb9 (by rw [hb]; exact ht')) ha hba)]
      exact q2
    · rw [q4 j hj, e4 _ _ _ (Or.inl hba)]
/-- a cell more -/
theorem aRep.new {D : aD} {z : aSt} {H H' : Heap} {t n sl : Nat} {cell : Cell} (hR : aRep D z H) (h1 : H'[H.size]? = some cell) (h2 : H'.size = H.size + 1) (h3 : ∀ q, q < H.size → H'[q]? = H[q]?)
    (hc : aOkC D t n (100 + gZ z) cell) (hv : ∀ k, k < aNp t n → cell.slots[aSl D t k]? = some (aRh D (aVal (aNew z t n sl) t (100 + gZ z) k))) : aRep D (aNew z t n sl) H' := by
  obtain ⟨r1, r2, r3⟩ := hR
  have e2 : gZ (aNew z t n sl) = gZ z + 1 := rfl
  refine ⟨by rw [h2, r1, e2]; rfl, fun a9 h9 h8 => r2 a9 h9 (by have e9 : gT (aNew z t n sl) a9 = gT z a9 := if_neg (by omega); rw [e9] at h8; exact h8), fun b t' n' hb ht' => ?_⟩
  rw [e2]
  by_cases hba : b = 100 + gZ z
  · subst hba
    have hb : (if 100 + gZ z = 100 + gZ z then (t, n) else gT z (100 + gZ z)) = (t', n') := hb
    rw [if_pos rfl] at hb
    cases hb
    refine ⟨fun _ => by omega, cell, ?_, hc, hv⟩
    rw [aMu_ge (by omega), show dB D + (100 + gZ z - 100) = H.size by omega]
    exact h1
  · have hb : (if b = 100 + gZ z then (t, n) else gT z b) = (t', n') := hb
    rw [if_neg hba] at hb
    obtain ⟨q1, cb, q2, q3, q4⟩ := r3 b t' n' hb ht'
    refine ⟨fun h => by have := q1 h; omega, cb, ?_, q3, fun j hj => ?_⟩
    · rw [h3 _ (Array.getElem?_eq_some_iff.mp q2).1]
      exact q2
    · rw [q4 j hj]
      have f1 : gI (aNew z t n sl) b j = gI z b j := if_neg hba
      have f2 : gL (aNew z t n sl) b j = gL z b j := if_neg hba
      have f3 : gR (aNew z t n sl) b j = gR z b j := if_neg hba
      unfold aVal
      rw [f1, f2, f3]
theorem a_inb {i : Int32} {n m : Nat} (h : ¬ (i < 0 ∨ n ≤ i.toNatClampNeg)) (hm : n ≤ m) : ¬ (i < 0 ∨ m ≤ i.toNatClampNeg) := fun h9 => h (h9.imp id (fun q => Nat.le_trans hm q))
section MEM
variable {p : Program} {l : Launch} {e : Env} {R : Room} {s : State} {m : MethodId} {args : Array Value} {below : List Frame} {meth : Method} {c : Code} {D : aD} {mm : aMi} {z0 zE : aSt} {Q : State → Prop}
variable {pc pc' : Nat} {L : List (Option Value)} {S S' : List Value} {z : aSt} {cf : aCf} {own : Nat} {ini : Bool}
theorem ww_r (h : ∀ (H : Heap) (ls : Array Slot) (locs : List Loc) (cells slots : Nat), aRep D z H → aLoc D L ls → va_S (aA D) s.heap H locs → W p l e R s m args below meth c H locs cells slots Q (F0 m pc' ls (S'.map (aRh D))) → W p l e R s m args below meth c H locs cells slots Q (F0 m pc ls (S.map (aRh D))))
    (k : aWW p l e R s m args below meth c D mm z0 zE Q pc' L S' z) : aWW p l e R s m args below meth c D mm z0 zE Q pc L S z :=
  ⟨k.1, k.2.1, fun H ls locs hR hL hl hS h1 h2 => h H ls locs _ _ hR hL hS (k.2.2 H ls locs hR hL hl hS h1 h2)⟩
/-- a write to a cell that was there -/
theorem ww_w {z' : aSt} (e1 : gZ z' = gZ z) (e2 : gS z' = gS z) (h : ∀ (H : Heap) (ls : Array Slot) (locs : List Loc) (cells slots : Nat), aRep D z H → aLoc D L ls → va_S (aA D) s.heap H locs →
      (∀ (H' : Heap) (locs' : List Loc), aRep D z' H' → va_S (aA D) s.heap H' locs' → W p l e R s m args below meth c H' locs' cells slots Q (F0 m pc' ls (S'.map (aRh D)))) → W p l e R s m args below meth c H locs cells slots Q (F0 m pc ls (S.map (aRh D))))
    (k : aWW p l e R s m args below meth c D mm z0 zE Q pc' L S' z') : aWW p l e R s m args below meth c D mm z0 zE Q pc L S z := by
  refine ⟨by rw [← e1]; exact k.1, by rw [← e2]; exact k.2.1, fun H ls locs hR hL hl hS h1 h2 => h H ls locs _ _ hR hL hS (fun H' locs' hR' hS' => ?_)⟩
  have := k.2.2 H' ls locs' hR' hL hl hS' (by rw [e1]; exact h1) (by rw [e2]; exact h2)
  rw [e1, e2] at this
  exact this
/-- an array's class -/
theorem aArr_cls {t : Nat} (K : aKV D s) (h40 : 40 ≤ t) (h60 : t < 60) : aArrK s (dC D t) (aElF t) := by
  by_cases h50 : t < 50
  · obtain ⟨-, kA, comp, h2, h3, -⟩ := K.2.2.2.2.1 t h40 h50
    exact ⟨kA, comp, h2, h3⟩
  · exact K.2.2.2.2.2.2.2.2.2.2.2.2.2.2.2.2.2.2 t (by omega) h60
/-- an array's cell -/
theorem aArr_at {H : Heap} {a t n : Nat} (K : aKV D s) (hR : aRep D z H) (hT : gT z a = (t, n)) (h40 : 40 ≤ t) (h50 : t < 60) : ∃ cell : Cell, H[aMu D a]? = some cell ∧ s.isArrayOf cell (aElF t) ∧ cell.vm ≠ .unknown ∧ cell.vm.isStatics = false ∧ (n ≤ cell.slots.size ∧ cell.slots.size.toInt32 = nI n ∧ (100 ≤ a → cell.slots.size = n)) ∧ (100 ≤ a → cell.vm = .none) ∧ cell.cls = dC D t ∧ ∀ k, k < n → cell.slots[k]? = some (aRh D (aVal z t a k)) := by
  obtain ⟨q1, cell, q2, ⟨p1, p2, p3, p4, p5⟩, q4⟩ := hR.2.2 a t n hT h50
  have en : aNp t n = n := if_neg (by omega)
  obtain ⟨kA, comp, h2, h3⟩ := aArr_cls K h40 h50
  refine ⟨cell, q2, ⟨VmData.ne_statics_of p4, kA, by rw [p1]; exact h2, comp, h3⟩, p3, p4, p5 h40, fun h => (p2 h).1, p1, fun k hk => ?_⟩
  have := q4 k (by rw [en]; exact hk)
  rwa [show aSl D t k = k from if_neg (by omega)] at this
theorem a_al_inv {ts : List Nat} (h : a_al ts pc' L S z = some cf) : ∃ i a S' t n, S = .int i :: .ref a :: S' ∧ gT z a = (t, n) ∧ t ∈ ts ∧ ¬ (i < 0 ∨ n ≤ i.toNatClampNeg) ∧ cf = (pc', L, aVal z t a i.toNatClampNeg :: S', z) := by
  unfold a_al at h
  split at h
  · rename_i i a S9
    split at h
    · rename_i hc
      split at h
      · cases h
      · rename_i hb
        exact ⟨i, a, S9, _, _, rfl, rfl, List.contains_iff_mem.mp hc, hb, (Option.some.inj h).symm⟩
    · cases h
  · cases h
theorem a_as_inv {t : Nat} {f : Int32 → Int32} (h : a_as t f pc' L S z = some cf) : ∃ x i a S' n, S = .int x :: .int i :: .ref a :: S' ∧ gT z a = (t, n) ∧ 100 ≤ a ∧ ¬ (i < 0 ∨ n ≤ i.toNatClampNeg) ∧ cf = (pc', L, S', sI z a i.toNatClampNeg (f x)) := by
  unfold a_as at h
  split at h
  · rename_i x i a S9
    split at h
    · rename_i hc
      split at h
      · cases h
      · rename_i hb
        exact ⟨x, i, a, S9, (gT z a).2, rfl, by rw [← hc.1], hc.2, hb, (Option.some.inj h).symm⟩
    · cases h
  · cases h
theorem va_S_put {H0 H H1 : Heap} {locs : List Loc} {a k : Nat} (h : va_S (aA D) H0 H locs) (ha : 100 ≤ a) (z : H1.size = H.size) (oq : ∀ q : Nat, q ≠ aMu D a → H1[q]? = H[q]?) : va_S (aA D) H0 H1 (locs ++ [⟨aMu D a, k⟩]) := h.put z oq (aMu_A ha)
theorem sl_inj {t n k : Nat} (h40 : 40 ≤ t) : ∀ j, j < aNp t n → j ≠ k → aSl D t k ≠ aSl D t j := fun j _ h => by
  rw [show aSl D t k = k from if_neg (by omega), show aSl D t j = j from if_neg (by omega)]
  exact fun e => h e.symm
theorem sx_iaload (C : aCx p s m meth c D mm) (hi : decode (mBytes mm) pc = .ok (.iaload, 1)) (h : aStep own ini .iaload pc L S z = some cf) (k : aWW p l e R s m args below meth c D mm z0 zE Q cf.1 cf.2.1 cf.2.2.1 cf.2.2.2) : aWW p l e R s m args below meth c D mm z0 zE Q pc L S z := by
  obtain ⟨i, a, S9, t, n, rfl, hT, ht, hb, rfl⟩ := a_al_inv h
  have ht : t = 40 ∨ t = 50 := by simpa using ht
  refine ww_r (fun H ls locs cells slots hR hL hS q => ?_) k
  rcases ht with rfl | rfl
  all_goals
    obtain ⟨cell, q1, q2, q3, q4, q5, q6, q7, q8⟩ := aArr_at C.2.2.2.2.2.2.1 hR hT (by decide) (by decide)
    exact W.iald C.1 C.2.1 q1 q2 q3 (a_inb hb q5.1) (q8 _ (by have := fun z => hb (Or.inr z); omega)) rfl rfl hi q
theorem sx_caload (C : aCx p s m meth c D mm) (hi : decode (mBytes mm) pc = .ok (.caload, 1)) (h : aStep own ini .caload pc L S z = some cf) (k : aWW p l e R s m args below meth c D mm z0 zE Q cf.1 cf.2.1 cf.2.2.1 cf.2.2.2) : aWW p l e R s m args below meth c D mm z0 zE Q pc L S z := by
  obtain ⟨i, a, S9, t, n, rfl, hT, ht, hb, rfl⟩ := a_al_inv h
  obtain rfl : t = 41 := by simpa using ht
  refine ww_r (fun H ls locs cells slots hR hL hS q => ?_) k
  obtain ⟨cell, q1, q2, q3, q4, q5, q6, q7, q8⟩ := aArr_at C.2.2.2.2.2.2.1 hR hT (by decide) (by decide)
  exact W.cald C.1 C.2.1 q1 q2 q3 (a_inb hb q5.1) (q8 _ (by have := fun z => hb (Or.inr z); omega)) rfl rfl hi q
theorem sx_laload (C : aCx p s m meth c D mm) (hi : decode (mBytes mm) pc = .ok (.laload, 1)) (h : aStep own ini .laload pc L S z = some cf) (k : aWW p l e R s m args below meth c D mm z0 zE Q cf.1 cf.2.1 cf.2.2.1 cf.2.2.2) : aWW p l e R s m args below meth c D mm z0 zE Q pc L S z := by
  obtain ⟨i, a, S9, t, n, rfl, hT, ht, hb, rfl⟩ := a_al_inv h
  obtain rfl : t = 44 := by simpa using ht
  refine ww_r (fun H ls locs cells slots hR hL hS q => ?_) k
  obtain ⟨cell, q1, q2, q3, q4, q5, q6, q7, q8⟩ := aArr_at C.2.2.2.2.2.2.1 hR hT (by decide) (by decide)
  exact W.lald C.1 C.2.1 q1 q2 q3 (a_inb hb q5.1) (q8 _ (by have := fun z => hb (Or.inr z); omega)) rfl rfl hi q
theorem sx_baload (C : aCx p s m meth c D mm) (hi : decode (mBytes mm) pc = .ok (.baload, 1)) (h : aStep own ini .baload pc L S z = some cf) (k : aWW p l e R s m args below meth c D mm z0 zE Q cf.1 cf.2.1 cf.2.2.1 cf.2.2.2) : aWW p l e R s m args below meth c D mm z0 zE Q pc L S z := by
  obtain ⟨i, a, S9, t, n, rfl, hT, ht, hb, rfl⟩ := a_al_inv h
  have ht : t = 42 ∨ (aElF t = .byte ∧ 40 ≤ t ∧ t < 60 ∧ ∀ k, aVal z t a k = .int (gI z a k)) := by
    simp only [List.mem_cons, List.not_mem_nil, or_false] at ht
    rcases ht with rfl | rfl | rfl | rfl | rfl | rfl | rfl | rfl | rfl | rfl | rfl
    · exact Or.inl rfl
    all_goals exact Or.inr ⟨rfl, by decide, by decide, fun _ => rfl⟩
  refine ww_r (fun H ls locs cells slots hR hL hS q => ?_) k
  rcases ht with rfl | ⟨ht, h40, h60, -⟩
  · obtain ⟨cell, q1, q2, q3, q4, q5, q6, q7, q8⟩ := aArr_at C.2.2.2.2.2.2.1 hR hT (by decide) (by decide)
    exact W.zald C.1 C.2.1 q1 q2 q3 (a_inb hb q5.1) (q8 _ (by have := fun z => hb (Or.inr z); omega)) rfl rfl hi q
  · obtain ⟨cell, q1, q2, q3, q4, q5, q6, q7, q8⟩ := aArr_at C.2.2.2.2.2.2.1 hR hT h40 h60
    rw [ht] at q2
    exact W.bald C.1 C.2.1 q1 q2 q3 (a_inb hb q5.1) (q8 _ (by have := fun z => hb (Or.inr z); omega)) rfl rfl hi q
theorem aElF_ref {t : Nat} (h : t ∈ [45, 46, 47, 48, 49]) : ∃ C, aElF t = .object C ∧ C ∈ aAO ∧ 40 ≤ t ∧ t < 50 := by
  simp only [List.mem_cons, List.not_mem_nil, or_false] at h
  rcases h with rfl | rfl | rfl | rfl | rfl
  · exact ⟨_, rfl, by decide, by decide, by decide⟩
  · exact ⟨_, rfl, by decide, by decide, by decide⟩
  · exact ⟨_, rfl, by decide, by decide, by decide⟩
  · exact ⟨_, rfl, by decide, by decide, by decide⟩
  · exact ⟨_, rfl, by decide, by decide, by decide⟩
theorem sx_aaload (C : aCx p s m meth c D mm) (hi : decode (mBytes mm) pc = .ok (.aaload, 1)) (h : aStep own ini .aaload pc L S z = some cf) (k : aWW p l e R s m args below meth c D mm z0 zE Q cf.1 cf.2.1 cf.2.2.1 cf.2.2.2) : aWW p l e R s m args below meth c D mm z0 zE Q pc L S z := by
  obtain ⟨i, a, S9, t, n, rfl, hT, ht, hb, rfl⟩ := a_al_inv h
  obtain ⟨C0, e0, -, h40, h50⟩ := aElF_ref ht
  refine ww_r (fun H ls locs cells slots hR hL hS q => ?_) k
  obtain ⟨cell, q1, q2, q3, q4, q5, q6, q7, q8⟩ := aArr_at C.2.2.2.2.2.2.1 hR hT h40 (by omega)
  exact W.aald C.1 C.2.1 q1 q2 (by rw [e0]; rfl) q3 (a_inb hb q5.1) (q8 _ (by have := fun z => hb (Or.inr z); omega)) rfl rfl hi q
theorem sx_iastore (C : aCx p s m meth c D mm) (hi : decode (mBytes mm) pc = .ok (.iastore, 1)) (h : aStep own ini .iastore pc L S z = some cf) (k : aWW p l e R s m args below meth c D mm z0 zE Q cf.1 cf.2.1 cf.2.2.1 cf.2.2.2) : aWW p l e R s m args below meth c D mm z0 zE Q pc L S z := by
  obtain ⟨x, i, a, S9, n, rfl, hT, ha, hb, rfl⟩ := a_as_inv h
  refine ww_w (z' := sI z a i.toNatClampNeg x) rfl rfl (fun H ls locs cells slots hR hL hS q => ?_) k
  obtain ⟨cell, q1, q2, q3, q4, q5, q6, q7, q8⟩ := aArr_at C.2.2.2.2.2.2.1 hR hT (by decide) (by decide)
  refine W.iast C.1 C.2.1 q1 q2 q3 (a_inb hb q5.1) rfl rfl hi (fun H' e1 e2 e3 => ?_)
  exact q H' _ (hR.put ha hT (by decide) (show i.toNatClampNeg < n by have := fun z => hb (Or.inr z); omega) q1 (sl_inj (by decide)) e1 e2 e3 rfl rfl (by show aRh D (.int (gI (sI z a _ x) a _)) = _; rw [show gI (sI z a i.toNatClampNeg x) a i.toNatClampNeg = x from a_up_eq]; rfl) (fun t b j hbj => aVal_sI hbj)) (va_S_put hS ha e2 e3)
theorem sx_castore (C : aCx p s m meth c D mm) (hi : decode (mBytes mm) pc = .ok (.castore, 1)) (h : aStep own ini .castore pc L S z = some cf) (k : aWW p l e R s m args below meth c D mm z0 zE Q cf.1 cf.2.1 cf.2.2.1 cf.2.2.2) : aWW p l e R s m args below meth c D mm z0 zE Q pc L S z := by
  obtain ⟨x, i, a, S9, n, rfl, hT, ha, hb, rfl⟩ := a_as_inv h
  refine ww_w (z' := sI z a i.toNatClampNeg (vp_nar .char x)) rfl rfl (fun H ls locs cells slots hR hL hS q => ?_) k
  obtain ⟨cell, q1, q2, q3, q4, q5, q6, q7, q8⟩ := aArr_at C.2.2.2.2.2.2.1 hR hT (by decide) (by decide)
  refine W.cast C.1 C.2.1 q1 q2 q3 (a_inb hb q5.1) rfl rfl hi (fun H' e1 e2 e3 => ?_)
  exact q H' _ (hR.put ha hT (by decide) (show i.toNatClampNeg < n by have := fun z => hb (Or.inr z); omega) q1 (sl_inj (by decide)) e1 e2 e3 rfl rfl (by show aRh D (.int (gI (sI z a _ _) a _)) = _; rw [show gI (sI z a i.toNatClampNeg (vp_nar .char x)) a i.toNatClampNeg = vp_nar .char x from a_up_eq]; rfl) (fun t b j hbj => aVal_sI hbj)) (va_S_put hS ha e2 e3)
theorem sx_bastore (C : aCx p s m meth c D mm) (hi : decode (mBytes mm) pc = .ok (.bastore, 1)) (h : aStep own ini .bastore pc L S z = some cf) (k : aWW p l e R s m args below meth c D mm z0 zE Q cf.1 cf.2.1 cf.2.2.1 cf.2.2.2) : aWW p l e R s m args below meth c D mm z0 zE Q pc L S z := by
  have h : a_bas (pc + 1) L S z = some cf := h
  unfold a_bas at h
  split at h
  · split at h
    · obtain ⟨x, i, a, S9, n, e9, hT, ha, hb, rfl⟩ := a_as_inv h
      rw [e9]
      refine ww_w (z' := sI z a i.toNatClampNeg (vp_nar .boolean x)) rfl rfl (fun H ls locs cells slots hR hL hS q => ?_) k
      obtain ⟨cell, q1, q2, q3, q4, q5, q6, q7, q8⟩ := aArr_at C.2.2.2.2.2.2.1 hR hT (by decide) (by decide)
      refine W.zast C.1 C.2.1 q1 q2 q3 (a_inb hb q5.1) rfl rfl hi (fun H' e1 e2 e3 => ?_)
      exact q H' _ (hR.put ha hT (by decide) (show i.toNatClampNeg < n by have := fun z => hb (Or.inr z); omega) q1 (sl_inj (by decide)) e1 e2 e3 rfl rfl (by show aRh D (.int (gI (sI z a _ _) a _)) = _; rw [show gI (sI z a i.toNatClampNeg (vp_nar .boolean x)) a i.toNatClampNeg = vp_nar .boolean x from a_up_eq]; rfl) (fun t b j hbj => aVal_sI hbj)) (va_S_put hS ha e2 e3)
    · obtain ⟨x, i, a, S9, n, e9, hT, ha, hb, rfl⟩ := a_as_inv h
      rw [e9]
      refine ww_w (z' := sI z a i.toNatClampNeg (vp_nar .byte x)) rfl rfl (fun H ls locs cells slots hR hL hS q => ?_) k
      obtain ⟨cell, q1, q2, q3, q4, q5, q6, q7, q8⟩ := aArr_at C.2.2.2.2.2.2.1 hR hT (by decide) (by decide)
      refine W.bast C.1 C.2.1 q1 q2 q3 (a_inb hb q5.1) rfl rfl hi (fun H' e1 e2 e3 => ?_)
      exact q H' _ (hR.put ha hT (by decide) (show i.toNatClampNeg < n by have := fun z => hb (Or.inr z); omega) q1 (sl_inj (by decide)) e1 e2 e3 rfl rfl (by show aRh D (.int (gI (sI z a _ _) a _)) = _; rw [show gI (sI z a i.toNatClampNeg (vp_nar .byte x)) a i.toNatClampNeg = vp_nar .byte x from a_up_eq]; rfl) (fun t b j hbj => aVal_sI hbj)) (va_S_put hS ha e2 e3)
  · cases h
theorem a_asl_inv (h : a_asl pc' L S z = some cf) : ∃ x i a S' n, S = .long x :: .int i :: .ref a :: S' ∧ gT z a = (44, n) ∧ 100 ≤ a ∧ ¬ (i < 0 ∨ n ≤ i.toNatClampNeg) ∧ cf = (pc', L, S', sL z a i.toNatClampNeg x) := by
  unfold a_asl at h
  split at h
  · rename_i x i a S9
    split at h
    · rename_i hc
      split at h
      · cases h
      · rename_i hb
        exact ⟨x, i, a, S9, (gT z a).2, rfl, by rw [← hc.1], hc.2, hb, (Option.some.inj h).symm⟩
    · cases h
  · cases h
theorem sx_lastore (C : aCx p s m meth c D mm) (hi : decode (mBytes mm) pc = .ok (.lastore, 1)) (h : aStep own ini .lastore pc L S z = some cf) (k : aWW p l e R s m args below meth c D mm z0 zE Q cf.1 cf.2.1 cf.2.2.1 cf.2.2.2) : aWW p l e R s m args below meth c D mm z0 zE Q pc L S z := by
  obtain ⟨x, i, a, S9, n, rfl, hT, ha, hb, rfl⟩ := a_asl_inv h
  refine ww_w (z' := sL z a i.toNatClampNeg x) rfl rfl (fun H ls locs cells slots hR hL hS q => ?_) k
  obtain ⟨cell, q1, q2, q3, q4, q5, q6, q7, q8⟩ := aArr_at C.2.2.2.2.2.2.1 hR hT (by decide) (by decide)
  refine W.last C.1 C.2.1 q1 q2 q3 (a_inb hb q5.1) rfl rfl hi (fun H' e1 e2 e3 => ?_)
  exact q H' _ (hR.put ha hT (by decide) (show i.toNatClampNeg < n by have := fun z => hb (Or.inr z); omega) q1 (sl_inj (by decide)) e1 e2 e3 rfl rfl (by show aRh D (.long (gL (sL z a _ x) a _)) = _; rw [show gL (sL z a i.toNatClampNeg x) a i.toNatClampNeg = x from a_up_eq]; rfl) (fun t b j hbj => aVal_sL hbj)) (va_S_put hS ha e2 e3)
theorem a_len_inv (h : a_len pc' L S z = some cf) : ∃ a S' t n, S = .ref a :: S' ∧ gT z a = (t, n) ∧ 40 ≤ t ∧ t < 60 ∧ cf = (pc', L, .int (nI n) :: S', z) := by
  unfold a_len at h
  split at h
  · rename_i a S9
    split at h
    · rename_i hc
      simp only [Bool.and_eq_true] at hc
      exact ⟨a, S9, _, _, rfl, rfl, Nat.le_of_ble_eq_true hc.1, Nat.le_of_ble_eq_true hc.2, (Option.some.inj h).symm⟩
    · cases h
  · cases h
theorem sx_arraylength (C : aCx p s m meth c D mm) (hi : decode (mBytes mm) pc = .ok (.arraylength, 1)) (h : aStep own ini .arraylength pc L S z = some cf) (k : aWW p l e R s m args below meth c D mm z0 zE Q cf.1 cf.2.1 cf.2.2.1 cf.2.2.2) : aWW p l e R s m args below meth c D mm z0 zE Q pc L S z := by
  obtain ⟨a, S9, t, n, rfl, hT, h40, h50, rfl⟩ := a_len_inv h
  refine ww_r (fun H ls locs cells slots hR hL hS q => ?_) k
  obtain ⟨cell, q1, q2, q3, q4, q5, q6, q7, q8⟩ := aArr_at C.2.2.2.2.2.2.1 hR hT h40 h50
  exact W.alen C.1 C.2.1 q1 q2 q5.2.1 rfl rfl hi q
end MEM
