/-! FRAMES with new cells; ArrayLists -/
set_option maxRecDepth 100000
section NEWRULES
variable {call : aRel} {m : aMi} {Q : aRes → aSt → Prop} {pc pc' : Nat} {L L' : List (Option Value)} {S S' S0 : List Value} {z z1 : aSt}
theorem w_newa {i : Instr} {t n : Nat} {x : Int32} (ha : aAt m pc = some i) (hs : aStep (mOwn m) (mIni m) i pc L (.int x :: S) z = a_newa t pc' L (.int x :: S) z) (hx : x = nI n) (hn : n < 65536) (c : wR call m Q pc' L (.ref (100 + gZ z) :: S) (aNew z t n n)) : wR call m Q pc L (.int x :: S) z := by
  subst hx
  refine w_nx (L' := L) (S' := .ref (100 + gZ z) :: S) (z1 := aNew z t n n) ?_ c
  rw [a_nxi ha, hs]
  unfold a_newa
  simp only []
  rw [nI_clamp (by omega), if_neg ?_]
  · rfl
  · rintro (g | g)
    · exact nI_pos (by omega) g
    · omega
theorem w_cast {idx a t : Nat} (ha : aAt m pc = some (.checkcast idx)) (hc : aCst (mOwn m) idx = some t) (hT : (gT z a).1 = t) (hp : pc + 3 = pc') (c : wR call m Q pc' L (.ref a :: S) z) : wR call m Q pc L (.ref a :: S) z := by
  subst hp
  refine w_nx (L' := L) (S' := .ref a :: S) (z1 := z) ?_ c
  rw [a_nxi ha]
  show a_cast (mOwn m) idx (pc + 3) L (.ref a :: S) z = _
  unfold a_cast
  simp only []
  rw [hc, hT, if_pos rfl]
/-- n references of s from sp on are written to d from dp on -/
def cR (z : aSt) (s sp d dp n : Nat) : aSt := (z.1, z.2.1, z.2.2.1, a_cpy z.2.2.2.1 s sp d dp n, z.2.2.2.2)
theorem w_acpR {i : Instr} {s sp d dp n ns nd : Nat} {x y w : Int32} (ha : aAt m pc = some i) (hs : aStep (mOwn m) (mIni m) i pc L (.int w :: .int y :: .ref d :: .int x :: .ref s :: S) z = a_acp (pc + 3) L (.int w :: .int y :: .ref d :: .int x :: .ref s :: S) z) (h1 : gT z s = (49, ns)) (h2 : gT z d = (49, nd)) (hA : 100 ≤ d) (hl : Nat.ble S.length 12 = true)
    (hx : x = nI sp) (hy : y = nI dp) (hw : w = nI n) (h3 : sp + n ≤ ns) (h4 : dp + n ≤ nd) (h5 : ns < 2 ^ 31) (h6 : nd < 2 ^ 31) (he : ∀ j, j < n → a_elo z (gR z s (sp + j)) = true) (hp : pc + 3 = pc') (c : wR call m Q pc' L S (cR z s sp d dp n)) : wR call m Q pc L (.int w :: .int y :: .ref d :: .int x :: .ref s :: S) z := by
  subst hp hx hy hw
  refine w_nx (L' := L) (S' := S) (z1 := cR z s sp d dp n) ?_ c
  rw [a_nxi ha, hs]
  unfold a_acp
  simp only [h1, h2]
  rw [if_pos ⟨rfl, hA, Nat.le_of_ble_eq_true hl⟩, nI_clamp (by omega), nI_clamp (by omega), nI_clamp (by omega), if_neg ?_]
  · rw [if_neg (by decide), if_neg (by decide), if_pos trivial, if_pos (List.all_eq_true.mpr fun j hj => he j (List.mem_range.mp hj))]
    rfl
  · rintro (g | g | g | g | g)
    · exact nI_pos (by omega) g
    · exact nI_pos (by omega) g
    · exact nI_pos (by omega) g
    · omega
    · omega
end NEWRULES
theorem sh_l : ∀ n, n < 32 → ((nI n &&& 31).toBitVec.smod 32).toNat = n := by decide
theorem nI_shr {a k : Nat} (ha : a < 2 ^ 31) (hk : k < 32) : nI a >>> (nI k &&& 31) = nI (a / 2 ^ k) := pk_shrN ha _ k (sh_l k hk)
theorem nI_shl {a k : Nat} (hk : k < 32) (h : a * 2 ^ k < 2 ^ 32) : nI a <<< (nI k &&& 31) = nI (a * 2 ^ k) := pk_shlN _ k (sh_l k hk) h
/-- a cell that stands -/
def lv (z : aSt) (b : Nat) : Prop := b < 100 + gZ z
/-- of the cells that stood, at most the cells F were written -/
def fr (F : Nat → Prop) (z z' : aSt) : Prop := gZ z ≤ gZ z' ∧ (∀ b, lv z b → gT z' b = gT z b) ∧ ∀ b, lv z b → ¬ F b → ∀ k, gI z' b k = gI z b k ∧ gL z' b k = gL z b k ∧ gR z' b k = gR z b k
theorem fr_refl {F : Nat → Prop} (z : aSt) : fr F z z := ⟨Nat.le_refl _, fun _ _ => rfl, fun _ _ _ _ => ⟨rfl, rfl, rfl⟩⟩
theorem lv_fr {F : Nat → Prop} {z z' : aSt} {b : Nat} (f : fr F z z') (h : lv z b) : lv z' b := Nat.lt_of_lt_of_le h (Nat.add_le_add_left f.1 100)
theorem fr_trans {F : Nat → Prop} {z z1 z2 : aSt} (h : fr F z z1) (g : fr F z1 z2) : fr F z z2 :=
  ⟨Nat.le_trans h.1 g.1, fun b hb => (g.2.1 b (lv_fr h hb)).trans (h.2.1 b hb), fun b hb hF k => ⟨((g.2.2 b (lv_fr h hb) hF k).1).trans (h.2.2 b hb hF k).1, ((g.2.2 b (lv_fr h hb) hF k).2.1).trans (h.2.2 b hb hF k).2.1, ((g.2.2 b (lv_fr h hb) hF k).2.2).trans (h.2.2 b hb hF k).2.2⟩⟩
theorem fr_mono {F G : Nat → Prop} {z z1 : aSt} (h : fr F z z1) (hs : ∀ b, lv z b → F b → G b) : fr G z z1 :=
  ⟨h.1, h.2.1, fun b hb hG k => h.2.2 b hb (fun f => hG (hs b hb f)) k⟩
theorem frI.fr {F : Nat → Prop} {z z1 : aSt} (h : frI F z z1) : fr F z z1 :=
  ⟨Nat.le_of_eq h.2.2.2.1.symm, fun b _ => (by rw [h.1]), fun b _ hF k => ⟨h.2.2.2.2.2 b hF k, (by rw [h.2.1]), (by rw [h.2.2.1])⟩⟩
theorem gT_new (z : aSt) (t n sl b : Nat) : gT (aNew z t n sl) b = if b = 100 + gZ z then (t, n) else gT z b := rfl
theorem gI_new (z : aSt) (t n sl b k : Nat) : gI (aNew z t n sl) b k = if b = 100 + gZ z then 0 else gI z b k := rfl
theorem gL_new (z : aSt) (t n sl b k : Nat) : gL (aNew z t n sl) b k = if b = 100 + gZ z then 0 else gL z b k := rfl
theorem gR_new (z : aSt) (t n sl b k : Nat) : gR (aNew z t n sl) b k = if b = 100 + gZ z then none else gR z b k := rfl
theorem gR_cR (z : aSt) (s sp d dp n a k : Nat) : gR (cR z s sp d dp n) a k = if a = d then (if dp ≤ k ∧ k < dp + n then gR z s (sp + (k - dp)) else gR z a k) else gR z a k := rfl
theorem lv_ne {z : aSt} {b : Nat} (h : lv z b) : b ≠ 100 + gZ z := Nat.ne_of_lt h
theorem fr_new {F : Nat → Prop} {z : aSt} {t n sl : Nat} : fr F z (aNew z t n sl) :=
  ⟨Nat.le_succ _, fun b hb => (by rw [gT_new, if_neg (lv_ne hb)]), fun b hb _ k => ⟨by rw [gI_new, if_neg (lv_ne hb)], by rw [gL_new, if_neg (lv_ne hb)], by rw [gR_new, if_neg (lv_ne hb)]⟩⟩
theorem fr_sI {F : Nat → Prop} {z : aSt} {a k : Nat} {v : Int32} (h : lv z a → F a) : fr F z (sI z a k v) :=
  ⟨Nat.le_refl _, fun _ _ => rfl, fun b hb hF j => ⟨gI_ne (fun e => hF (e ▸ h (e ▸ hb))), rfl, rfl⟩⟩
theorem gR_ne {z : aSt} {a k : Nat} {v : Option Nat} {b j : Nat} (h : b ≠ a) : gR (sR z a k v) b j = gR z b j := by rw [gR_sR, if_neg h]
theorem gR_nk {z : aSt} {a k : Nat} {v : Option Nat} {b j : Nat} (h : j ≠ k) : gR (sR z a k v) b j = gR z b j := by rw [gR_sR, if_neg h]; split <;> rfl
theorem gR_same (z : aSt) (a k : Nat) (v : Option Nat) : gR (sR z a k v) a k = v := by rw [gR_sR, if_pos rfl, if_pos rfl]
theorem fr_sR {F : Nat → Prop} {z : aSt} {a k : Nat} {v : Option Nat} (h : lv z a → F a) : fr F z (sR z a k v) :=
  ⟨Nat.le_refl _, fun _ _ => rfl, fun b hb hF j => ⟨rfl, rfl, gR_ne (fun e => hF (e ▸ h (e ▸ hb)))⟩⟩
theorem fr_cR {F : Nat → Prop} {z : aSt} {s sp d dp n : Nat} (h : lv z d → F d) : fr F z (cR z s sp d dp n) :=
  ⟨Nat.le_refl _, fun _ _ => rfl, fun b hb hF j => ⟨rfl, rfl, (by rw [gR_cR, if_neg (fun e : b = d => hF (e ▸ h (e ▸ hb)))])⟩⟩
/-- writes to cells made since -/
theorem fr_old {F G : Nat → Prop} {z z1 z2 : aSt} (h : fr F z z1) (g : fr G z1 z2) (hs : ∀ b, lv z b → G b → F b) : fr F z z2 :=
  ⟨Nat.le_trans h.1 g.1, fun b hb => (g.2.1 b (lv_fr h hb)).trans (h.2.1 b hb), fun b hb hF k => (fun q => ⟨q.1.trans (h.2.2 b hb hF k).1, q.2.1.trans (h.2.2 b hb hF k).2.1, q.2.2.trans (h.2.2 b hb hF k).2.2⟩) (g.2.2 b (lv_fr h hb) (fun q => hF (hs b hb q)) k)⟩
/-- an ArrayList a of objects of class T, its array e of c places, its elements ps -/
def isAL (z : aSt) (T a e c : Nat) (ps : List Nat) : Prop := gT z a = (2, 0) ∧ 100 ≤ a ∧ lv z a ∧ gR z a 1 = some e ∧ gI z a 2 = nI ps.length ∧ gT z e = (49, c) ∧ lv z e ∧ (e = 13 ∧ c = 0 ∨ 100 ≤ e ∧ 10 ≤ c) ∧ ps.length ≤ c ∧ c ≤ 2 * ps.length + 10 ∧ (∀ i, i < ps.length → gR z e i = some (ps.getD i 0)) ∧ ∀ p ∈ ps, (gT z p).1 = T ∧ lv z p
theorem isAL_fr {F : Nat → Prop} {z z' : aSt} {T a e c : Nat} {ps : List Nat} (h : isAL z T a e c ps) (f : fr F z z') (h1 : ¬ F a) (h2 : ¬ F e) : isAL z' T a e c ps := by
  obtain ⟨a1, a2, a3, a4, a5, a6, a7, a8, a9, a10, a11, a12⟩ := h
  refine ⟨(f.2.1 a a3).trans a1, a2, lv_fr f a3, ((f.2.2 a a3 h1 1).2.2).trans a4, ((f.2.2 a a3 h1 2).1).trans a5, (f.2.1 e a7).trans a6, lv_fr f a7, a8, a9, a10, fun i hi => ((f.2.2 e a7 h2 i).2.2).trans (a11 i hi), fun p hp => ⟨?_, lv_fr f (a12 p hp).2⟩⟩
  rw [f.2.1 p (a12 p hp).2]
  exact (a12 p hp).1
theorem j_size {d T a e c : Nat} {ps : List Nat} {z : aSt} (h : isAL z T a e c ps) : aW (d + 1) 47 [.ref a] z (fun o z' => o = .inl (some (.int (nI ps.length))) ∧ z' = z) := by
  have hT : (gT z a).1 = 2 := by rw [h.1]
  refine w_of (k := 47) (m := aM_J2_size) rfl rfl ?_
  refine w_nx (pc' := 1) rfl ?_
  refine w_getI rfl rfl (hT) rfl rfl ?_
  refine w_top (h.2.2.2.2.1) ?_
  exact w_fin rfl (⟨rfl, rfl⟩)
theorem j_elementData {d T a e c i : Nat} {ps : List Nat} {z : aSt} (h : isAL z T a e c ps) (hi : i < ps.length) (hc : ps.length ≤ 20000) : aW (d + 1) 53 [.ref a, .int (nI i)] z (fun o z' => o = .inl (some (.ref (ps.getD i 0))) ∧ z' = z) := by
  obtain ⟨a1, a2, a3, a4, a5, a6, a7, a8, a9, a10, a11, a12⟩ := h
  have hT : (gT z a).1 = 2 := by rw [a1]
  have hcc : c < 2 ^ 31 := by omega
  refine w_of (k := 53) (m := aM_J2_elementData) rfl rfl ?_
  refine w_nx (pc' := 1) rfl ?_
  refine w_getR rfl rfl (hT) (congrArg va_rf (a4)) rfl ?_
  refine w_nx (pc' := 5) rfl ?_
  refine w_ald rfl (fun _ _ _ _ _ _ => rfl) a6 rfl rfl (by omega) hcc (congrArg va_rf (a11 i hi)) rfl ?_
  exact w_fin rfl (⟨rfl, rfl⟩)
theorem j_checkIndex1 {d i n : Nat} {z : aSt} (hi : i < n) (hn : n < 2 ^ 31) : aW (d + 1) 158 [.int (nI i), .int (nI n), .null] z (fun o z' => o = .inl (some (.int (nI i))) ∧ z' = z) := by
  refine w_of (k := 158) (m := aM_J11_checkIndex) rfl rfl ?_
  refine w_nx (pc' := 1) rfl ?_
  refine w_iflt rfl rfl rfl (fun hb => ?_) (fun hb => ?_)
  · exact absurd hb (nI_pos (by omega))
  · refine w_nx (pc' := 5) rfl ?_
    refine w_nx (pc' := 6) rfl ?_
    refine w_nclt rfl rfl rfl (rfl) (rfl) (by omega) (by omega) (fun hc => ?_) (fun hc => ?_)
    · refine w_nx (pc' := 17) rfl ?_
      exact w_fin rfl (⟨rfl, rfl⟩)
    · omega
theorem j_checkIndex {d i n : Nat} {z : aSt} (hi : i < n) (hn : n < 2 ^ 31) : aW (d + 2) 155 [.int (nI i), .int (nI n)] z (fun o z' => o = .inl (some (.int (nI i))) ∧ z' = z) := by
  refine w_of (k := 155) (m := aM_J10_checkIndex) rfl rfl ?_
  refine w_nx (pc' := 1) rfl ?_
  refine w_nx (pc' := 2) rfl ?_
  refine w_nx (pc' := 3) rfl ?_
  obtain ⟨o, z1, e, q1, q2⟩ := j_checkIndex1 (d := d) (z := z) hi hn
  subst q1 q2
  refine w_cal (pc' := 6) rfl (rfl) (e) ?_
  exact w_fin rfl (⟨rfl, rfl⟩)
theorem j_get {d T a e c i : Nat} {ps : List Nat} {z : aSt} (h : isAL z T a e c ps) (hi : i < ps.length) (hc : ps.length ≤ 20000) : aW (d + 3) 52 [.ref a, .int (nI i)] z (fun o z' => o = .inl (some (.ref (ps.getD i 0))) ∧ z' = z) := by
  have hT : (gT z a).1 = 2 := by rw [h.1]
  refine w_of (k := 52) (m := aM_J2_get) rfl rfl ?_
  refine w_nx (pc' := 1) rfl ?_
  refine w_nx (pc' := 2) rfl ?_
  refine w_getI rfl rfl (hT) rfl rfl ?_
  refine w_top (h.2.2.2.2.1) ?_
  obtain ⟨o, z1, e, q1, q2⟩ := j_checkIndex (d := d) (z := z) hi (by omega)
  subst q1 q2
  refine w_cal (pc' := 8) rfl (rfl) (e) ?_
  refine w_nx (pc' := 9) rfl ?_
  refine w_nx (pc' := 10) rfl ?_
  refine w_nx (pc' := 11) rfl ?_
  obtain ⟨o, z1, e, q1, q2⟩ := (j_elementData (d := d) h hi hc).up
  subst q1 q2
  refine w_cal (pc' := 14) rfl (a_cv0 rfl rfl rfl (hT) rfl rfl) (e) ?_
  exact w_fin rfl (⟨rfl, rfl⟩)
