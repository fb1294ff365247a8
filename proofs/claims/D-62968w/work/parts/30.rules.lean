/-! LAYER 1: rules for walking the abstract machine -/
set_option maxRecDepth 100000
/-- from this configuration the method ends, with Q -/
def wR (call : aRel) (m : aMi) (Q : aRes → aSt → Prop) (pc : Nat) (L : List (Option Value)) (S : List Value) (z : aSt) : Prop := ∃ r z', aRuns call m pc L S z r z' ∧ Q r z'
/-- method k, called, ends with Q -/
def aW (d k : Nat) (as : List Value) (z : aSt) (Q : aRes → aSt → Prop) : Prop := ∃ r z', aEx d k as z r z' ∧ Q r z'
section RULES
variable {call : aRel} {m : aMi} {Q : aRes → aSt → Prop} {pc pc' : Nat} {L L' : List (Option Value)} {S S' : List Value} {z z1 : aSt}
theorem w_of {d k : Nat} {as : List Value} (hk : aMs[k]? = some m) (he : aEnt m as = some L) (h : wR (aEx d) m Q 0 L [] z) : aW (d + 1) k as z Q := by
  obtain ⟨r, z', h1, h2⟩ := h
  exact ⟨r, z', ⟨m, L, hk, he, h1⟩, h2⟩
theorem w_imp {Q' : aRes → aSt → Prop} (h : ∀ r z', Q r z' → Q' r z') (k : wR call m Q pc L S z) : wR call m Q' pc L S z := by
  obtain ⟨r, z', h1, h2⟩ := k
  exact ⟨r, z', h1, h r z' h2⟩
theorem aW.imp {d k : Nat} {as : List Value} {Q' : aRes → aSt → Prop} (h : ∀ r z', Q r z' → Q' r z') (w : aW d k as z Q) : aW d k as z Q' := by
  obtain ⟨r, z', h1, h2⟩ := w
  exact ⟨r, z', h1, h r z' h2⟩
theorem aW.up {d k : Nat} {as : List Value} (w : aW d k as z Q) : aW (d + 1) k as z Q := by
  obtain ⟨r, z', h1, h2⟩ := w
  exact ⟨r, z', aEx_up _ _ _ _ _ _ h1, h2⟩
theorem aW.le {d e k : Nat} {as : List Value} (h : d ≤ e) (w : aW d k as z Q) : aW e k as z Q := by
  induction h with
  | refl => exact w
  | step _ ih => exact ih.up
theorem w_nx (h : aNx m pc L S z = some (pc', L', S', z1)) (k : wR call m Q pc' L' S' z1) : wR call m Q pc L S z := by
  obtain ⟨r, z', h1, h2⟩ := k
  exact ⟨r, z', aRuns.nx h h1, h2⟩
theorem w_fin {r : aRes} (h : aFin m pc S z = some r) (hq : Q r z) : wR call m Q pc L S z := ⟨r, z, aRuns.fin h, hq⟩
theorem w_cal {j : Nat} {as S0 : List Value} {v : Option Value} (hp : pc + 3 = pc') (h : aCall m pc S z = some (j, as, S0)) (hc : call j as z (.inl v) z1) (k : wR call m Q pc' L (v.toList ++ S0) z1) : wR call m Q pc L S z := by
  subst hp
  obtain ⟨r, z', h1, h2⟩ := k
  exact ⟨r, z', aRuns.cal h hc h1, h2⟩
theorem w_cat {j x hd : Nat} {as S0 : List Value} (h : aCall m pc S z = some (j, as, S0)) (hc : call j as z (.inr x) z1) (ht : aExT (gT z1 x).1 = true) (hh : aHan m pc (gT z1 x).1 = some hd) (k : wR call m Q hd L [.ref x] z1) : wR call m Q pc L S z := by
  obtain ⟨r, z', h1, h2⟩ := k
  exact ⟨r, z', aRuns.cat h hc ht hh h1, h2⟩
theorem w_thr {j x : Nat} {as S0 : List Value} (h : aCall m pc S z = some (j, as, S0)) (hc : call j as z (.inr x) z1) (hh : aNoH m pc = true) (hq : Q (.inr x) z1) : wR call m Q pc L S z := ⟨_, _, aRuns.thr h hc hh, hq⟩
theorem w_thn {x : Nat} (h : aThr m pc S z = some (x, z1)) (hq : Q (.inr x) z1) : wR call m Q pc L S z := ⟨_, _, aRuns.thn h, hq⟩
/-- the value on top, by another name -/
theorem w_top {x y : Int32} (h : x = y) (k : wR call m Q pc L (.int y :: S) z) : wR call m Q pc L (.int x :: S) z := by
  rw [h]
  exact k
theorem w_topL {x y : Int64} (h : x = y) (k : wR call m Q pc L (.long y :: S) z) : wR call m Q pc L (.long x :: S) z := by
  rw [h]
  exact k
theorem w_top2 {v : Value} {x y : Int32} (h : x = y) (k : wR call m Q pc L (v :: .int y :: S) z) : wR call m Q pc L (v :: .int x :: S) z := by
  rw [h]
  exact k
/-- the memory, by another name -/
theorem w_mem (h : z = z1) (k : wR call m Q pc L S z1) : wR call m Q pc L S z := by
  rw [h]
  exact k
theorem w_loc (h : L = L') (k : wR call m Q pc L' S z) : wR call m Q pc L S z := by
  rw [h]
  exact k
theorem a_nxi {i : Instr} (ha : aAt m pc = some i) : aNx m pc L S z = aStep (mOwn m) (mIni m) i pc L S z := by
  unfold aNx
  rw [ha]
theorem w_getI {idx a t k : Nat} (ha : aAt m pc = some (.getfield idx)) (hf : aFld (mOwn m) idx = some (t, k)) (hT : (gT z a).1 = t) (hv : aVal z t a k = .int (gI z a k)) (hp : pc + 3 = pc') (c : wR call m Q pc' L (.int (gI z a k) :: S) z) : wR call m Q pc L (.ref a :: S) z := by
  subst hp
  refine w_nx (L' := L) (S' := .int (gI z a k) :: S) (z1 := z) ?_ c
  rw [a_nxi ha]
  show a_get (mOwn m) idx (pc + 3) L (.ref a :: S) z = _
  unfold a_get
  simp only [hf]
  rw [if_pos hT, hv]
theorem w_getR {idx a t k : Nat} {v : Value} (ha : aAt m pc = some (.getfield idx)) (hf : aFld (mOwn m) idx = some (t, k)) (hT : (gT z a).1 = t) (hv : aVal z t a k = v) (hp : pc + 3 = pc') (c : wR call m Q pc' L (v :: S) z) : wR call m Q pc L (.ref a :: S) z := by
  subst hp
  refine w_nx (L' := L) (S' := v :: S) (z1 := z) ?_ c
  rw [a_nxi ha]
  show a_get (mOwn m) idx (pc + 3) L (.ref a :: S) z = _
  unfold a_get
  simp only [hf]
  rw [if_pos hT, hv]
theorem w_put {idx a t k : Nat} {v : Value} (ha : aAt m pc = some (.putfield idx)) (hf : aFld (mOwn m) idx = some (t, k)) (hT : (gT z a).1 = t) (hA : 100 ≤ a) (hM : aMay (mOwn m) t k (mIni m) = true) (hz : aPut z t a k v = some z1) (hp : pc + 3 = pc') (c : wR call m Q pc' L S z1) : wR call m Q pc L (v :: .ref a :: S) z := by
  subst hp
  refine w_nx (L' := L) (S' := S) (z1 := z1) ?_ c
  rw [a_nxi ha]
  show a_put (mOwn m) idx (pc + 3) (mIni m) L (v :: .ref a :: S) z = _
  unfold a_put
  simp only [hf]
  rw [if_pos ⟨hT, hA, hM⟩, hz]
theorem w_ald {i : Instr} {ts : List Nat} {x : Int32} {a n t j : Nat} {v : Value} (ha : aAt m pc = some i) (hs : ∀ own ini pc L S z, aStep own ini i pc L S z = a_al ts (pc + 1) L S z) (hT : gT z a = (t, n)) (ht : ts.contains t = true) (hx : x = nI j) (hj : j < n) (hn : n < 2 ^ 31) (hv : aVal z t a j = v) (hp : pc + 1 = pc') (c : wR call m Q pc' L (v :: S) z) : wR call m Q pc L (.int x :: .ref a :: S) z := by
  subst hp
  subst hx
  refine w_nx (L' := L) (S' := v :: S) (z1 := z) ?_ c
  rw [a_nxi ha, hs]
  unfold a_al
  simp only [hT]
  rw [if_pos ht, if_neg (nI_in hj hn), nI_clamp (by omega), hv]
theorem w_ast {i : Instr} {f : Int32 → Int32} {x y : Int32} {a n t j : Nat} (ha : aAt m pc = some i) (hs : ∀ own ini pc L S z, aStep own ini i pc L S z = a_as t f (pc + 1) L S z) (hT : gT z a = (t, n)) (hA : 100 ≤ a) (hx : x = nI j) (hj : j < n) (hn : n < 2 ^ 31) (hp : pc + 1 = pc') (c : wR call m Q pc' L S (sI z a j (f y))) : wR call m Q pc L (.int y :: .int x :: .ref a :: S) z := by
  subst hp
  subst hx
  refine w_nx (L' := L) (S' := S) (z1 := sI z a j (f y)) ?_ c
  rw [a_nxi ha, hs]
  unfold a_as
  simp only [hT]
  rw [if_pos ⟨trivial, hA⟩, if_neg (nI_in hj hn), nI_clamp (by omega)]
theorem w_zast {x y : Int32} {a n j : Nat} (ha : aAt m pc = some .bastore) (hT : gT z a = (42, n)) (hA : 100 ≤ a) (hx : x = nI j) (hj : j < n) (hn : n < 2 ^ 31) (hp : pc + 1 = pc') (c : wR call m Q pc' L S (sI z a j (vp_nar .boolean y))) : wR call m Q pc L (.int y :: .int x :: .ref a :: S) z := by
  subst hp
  subst hx
  refine w_nx (L' := L) (S' := S) (z1 := sI z a j (vp_nar .boolean y)) ?_ c
  rw [a_nxi ha]
  show a_bas (pc + 1) L (.int y :: .int (nI j) :: .ref a :: S) z = _
  unfold a_bas
  simp only [hT]
  rw [if_pos trivial]
  unfold a_as
  simp only [hT]
  rw [if_pos ⟨trivial, hA⟩, if_neg (nI_in hj hn), nI_clamp (by omega)]
theorem w_bast {x y : Int32} {a n j : Nat} (ha : aAt m pc = some .bastore) (hT : gT z a = (43, n)) (hA : 100 ≤ a) (hx : x = nI j) (hj : j < n) (hn : n < 2 ^ 31) (hp : pc + 1 = pc') (c : wR call m Q pc' L S (sI z a j (vp_nar .byte y))) : wR call m Q pc L (.int y :: .int x :: .ref a :: S) z := by
  subst hp
  subst hx
  refine w_nx (L' := L) (S' := S) (z1 := sI z a j (vp_nar .byte y)) ?_ c
  rw [a_nxi ha]
  show a_bas (pc + 1) L (.int y :: .int (nI j) :: .ref a :: S) z = _
  unfold a_bas
  simp only [hT]
  rw [if_neg (by decide)]
  unfold a_as
  simp only [hT]
  rw [if_pos ⟨trivial, hA⟩, if_neg (nI_in hj hn), nI_clamp (by omega)]
theorem w_last {x : Int32} {y : Int64} {a n j : Nat} (ha : aAt m pc = some .lastore) (hT : gT z a = (44, n)) (hA : 100 ≤ a) (hx : x = nI j) (hj : j < n) (hn : n < 2 ^ 31) (hp : pc + 1 = pc') (c : wR call m Q pc' L S (sL z a j y)) : wR call m Q pc L (.long y :: .int x :: .ref a :: S) z := by
  subst hp
  subst hx
  refine w_nx (L' := L) (S' := S) (z1 := sL z a j y) ?_ c
  rw [a_nxi ha]
  show a_asl (pc + 1) L (.long y :: .int (nI j) :: .ref a :: S) z = _
  unfold a_asl
  simp only [hT]
  rw [if_pos ⟨trivial, hA⟩, if_neg (nI_in hj hn), nI_clamp (by omega)]
theorem w_aast {x : Int32} {b a n t j : Nat} (ha : aAt m pc = some .aastore) (hT : gT z a = (t, n)) (hA : 100 ≤ a) (hb : aAst t (gT z b).1 = true) (hx : x = nI j) (hj : j < n) (hn : n < 2 ^ 31) (hp : pc + 1 = pc') (c : wR call m Q pc' L S (sR z a j (some b))) : wR call m Q pc L (.ref b :: .int x :: .ref a :: S) z := by
  subst hp
  subst hx
  refine w_nx (L' := L) (S' := S) (z1 := sR z a j (some b)) ?_ c
  rw [a_nxi ha]
  show a_asr (pc + 1) L (.ref b :: .int (nI j) :: .ref a :: S) z = _
  unfold a_asr
  simp only [hT]
  rw [if_pos ⟨hb, hA⟩, if_neg (nI_in hj hn), nI_clamp (by omega)]
theorem w_aastN {x : Int32} {a n t j : Nat} (ha : aAt m pc = some .aastore) (hT : gT z a = (t, n)) (hA : 100 ≤ a) (ht : (Nat.ble 45 t && Nat.blt t 50) = true) (hx : x = nI j) (hj : j < n) (hn : n < 2 ^ 31) (hp : pc + 1 = pc') (c : wR call m Q pc' L S (sR z a j none)) : wR call m Q pc L (.null :: .int x :: .ref a :: S) z := by
  subst hp
  subst hx
  refine w_nx (L' := L) (S' := S) (z1 := sR z a j none) ?_ c
  rw [a_nxi ha]
  show a_asr (pc + 1) L (.null :: .int (nI j) :: .ref a :: S) z = _
  unfold a_asr
  simp only [hT]
  rw [if_pos ⟨ht, hA⟩, if_neg (nI_in hj hn), nI_clamp (by omega)]
theorem w_len {a n t : Nat} (ha : aAt m pc = some .arraylength) (hT : gT z a = (t, n)) (ht : (Nat.ble 40 t && Nat.blt t 60) = true) (hp : pc + 1 = pc') (c : wR call m Q pc' L (.int (nI n) :: S) z) : wR call m Q pc L (.ref a :: S) z := by
  subst hp
  refine w_nx (L' := L) (S' := .int (nI n) :: S) (z1 := z) ?_ c
  rw [a_nxi ha]
  show a_len (pc + 1) L (.ref a :: S) z = _
  unfold a_len
  simp only [hT]
  rw [if_pos ht]
theorem w_iinc {i : Nat} {n : Int} {x y : Int32} (ha : aAt m pc = some (.iinc i n)) (hl : L[i]? = some (some (.int x))) (hy : x + Int32.ofInt n = y) (hL : aSto L i (.int y) = L') (hp : pc + 3 = pc') (c : wR call m Q pc' L' S z) : wR call m Q pc L S z := by
  subst hp
  subst hy
  subst hL
  refine w_nx (L' := aSto L i (.int (x + Int32.ofInt n))) (S' := S) (z1 := z) ?_ c
  rw [a_nxi ha]
  show a_iinc i n (pc + 3) L S z = _
  unfold a_iinc
  rw [hl]
/-- branches -/
theorem w_br {i : Instr} {c : Prop} {t f : Nat} (ha : aAt m pc = some i) (hs : ∀ own ini, ∃ _ : Decidable c, aStep own ini i pc L S z = if c then some (t, L, S', z) else some (f, L, S', z)) (k1 : c → wR call m Q t L S' z) (k2 : ¬ c → wR call m Q f L S' z) : wR call m Q pc L S z := by
  obtain ⟨inst, hs⟩ := hs (mOwn m) (mIni m)
  by_cases hc : c
  · refine w_nx (pc' := t) (L' := L) (S' := S') (z1 := z) ?_ (k1 hc)
    rw [a_nxi ha, hs, if_pos hc]
  · refine w_nx (pc' := f) (L' := L) (S' := S') (z1 := z) ?_ (k2 hc)
    rw [a_nxi ha, hs, if_neg hc]
end RULES
/-! branches, by name (by program) -/
section BRS
variable {call : aRel} {m : aMi} {Q : aRes → aSt → Prop} {pc pc' t : Nat} {L : List (Option Value)} {S : List Value} {z : aSt} {off : Int} {x y : Int32} {a b : Nat}
theorem a_jpt (ht : ((pc : Int) + off).toNat? = some t) : a_jp pc off L S z = some (t, L, S, z) := by
  unfold a_jp
  rw [ht]
theorem a_brt {c : Prop} [Decidable c] (ht : ((pc : Int) + off).toNat? = some t) : a_br c pc off L S z = if c then some (t, L, S, z) else some (pc + 3, L, S, z) := by
  unfold a_br
  rw [ht]
theorem w_iceq (h1 : aAt m pc = some (.if_icmp .eq off)) (ht : ((pc : Int) + off).toNat? = some t) (hp : pc + 3 = pc') (k1 : x = y → wR call m Q t L S z) (k2 : ¬ (x = y) → wR call m Q pc' L S z) : wR call m Q pc L (.int y :: .int x :: S) z := by
  subst hp
  exact w_br h1 (fun _ _ => ⟨inferInstance, a_brt ht⟩) k1 k2
theorem w_nceq (h1 : aAt m pc = some (.if_icmp .eq off)) (ht : ((pc : Int) + off).toNat? = some t) (hp : pc + 3 = pc') (hx : x = nI a) (hy : y = nI b) (ha : a < 2 ^ 31) (hb : b < 2 ^ 31) (k1 : a = b → wR call m Q t L S z) (k2 : a ≠ b → wR call m Q pc' L S z) : wR call m Q pc L (.int y :: .int x :: S) z := by
  subst hx hy
  exact w_iceq h1 ht hp (fun h => k1 ((nI_eq ha hb).mp h)) (fun h => k2 (fun e => h ((nI_eq ha hb).mpr e)))
theorem w_icne (h1 : aAt m pc = some (.if_icmp .ne off)) (ht : ((pc : Int) + off).toNat? = some t) (hp : pc + 3 = pc') (k1 : ¬ x = y → wR call m Q t L S z) (k2 : ¬ (¬ x = y) → wR call m Q pc' L S z) : wR call m Q pc L (.int y :: .int x :: S) z := by
  subst hp
  exact w_br h1 (fun _ _ => ⟨inferInstance, a_brt ht⟩) k1 k2
theorem w_ncne (h1 : aAt m pc = some (.if_icmp .ne off)) (ht : ((pc : Int) + off).toNat? = some t) (hp : pc + 3 = pc') (hx : x = nI a) (hy : y = nI b) (ha : a < 2 ^ 31) (hb : b < 2 ^ 31) (k1 : a ≠ b → wR call m Q t L S z) (k2 : a = b → wR call m Q pc' L S z) : wR call m Q pc L (.int y :: .int x :: S) z := by
  subst hx hy
  exact w_icne h1 ht hp (fun h => k1 (fun e => h ((nI_eq ha hb).mpr e))) (fun h => k2 (Classical.byContradiction (fun e => h (fun g => e ((nI_eq ha hb).mp g)))))
theorem w_iclt (h1 : aAt m pc = some (.if_icmp .lt off)) (ht : ((pc : Int) + off).toNat? = some t) (hp : pc + 3 = pc') (k1 : x < y → wR call m Q t L S z) (k2 : ¬ (x < y) → wR call m Q pc' L S z) : wR call m Q pc L (.int y :: .int x :: S) z := by
  subst hp
  exact w_br h1 (fun _ _ => ⟨inferInstance, a_brt ht⟩) k1 k2
theorem w_nclt (h1 : aAt m pc = some (.if_icmp .lt off)) (ht : ((pc : Int) + off).toNat? = some t) (hp : pc + 3 = pc') (hx : x = nI a) (hy : y = nI b) (ha : a < 2 ^ 31) (hb : b < 2 ^ 31) (k1 : a < b → wR call m Q t L S z) (k2 : b ≤ a → wR call m Q pc' L S z) : wR call m Q pc L (.int y :: .int x :: S) z := by
  subst hx hy
  exact w_iclt h1 ht hp (fun h => k1 ((nI_ltI ha hb).mp h)) (fun h => k2 (Nat.not_lt.mp (fun e => h ((nI_ltI ha hb).mpr e))))
theorem w_icge (h1 : aAt m pc = some (.if_icmp .ge off)) (ht : ((pc : Int) + off).toNat? = some t) (hp : pc + 3 = pc') (k1 : y ≤ x → wR call m Q t L S z) (k2 : ¬ (y ≤ x) → wR call m Q pc' L S z) : wR call m Q pc L (.int y :: .int x :: S) z := by
  subst hp
  exact w_br h1 (fun _ _ => ⟨inferInstance, a_brt ht⟩) k1 k2
theorem w_ncge (h1 : aAt m pc = some (.if_icmp .ge off)) (ht : ((pc : Int) + off).toNat? = some t) (hp : pc + 3 = pc') (hx : x = nI a) (hy : y = nI b) (ha : a < 2 ^ 31) (hb : b < 2 ^ 31) (k1 : b ≤ a → wR call m Q t L S z) (k2 : a < b → wR call m Q pc' L S z) : wR call m Q pc L (.int y :: .int x :: S) z := by
  subst hx hy
  exact w_icge h1 ht hp (fun h => k1 ((nI_leI hb ha).mp h)) (fun h => k2 (Nat.not_le.mp (fun e => h ((nI_leI hb ha).mpr e))))
theorem w_icgt (h1 : aAt m pc = some (.if_icmp .gt off)) (ht : ((pc : Int) + off).toNat? = some t) (hp : pc + 3 = pc') (k1 : y < x → wR call m Q t L S z) (k2 : ¬ (y < x) → wR call m Q pc' L S z) : wR call m Q pc L (.int y :: .int x :: S) z := by
  subst hp
  exact w_br h1 (fun _ _ => ⟨inferInstance, a_brt ht⟩) k1 k2
theorem w_ncgt (h1 : aAt m pc = some (.if_icmp .gt off)) (ht : ((pc : Int) + off).toNat? = some t) (hp : pc + 3 = pc') (hx : x = nI a) (hy : y = nI b) (ha : a < 2 ^ 31) (hb : b < 2 ^ 31) (k1 : b < a → wR call m Q t L S z) (k2 : a ≤ b → wR call m Q pc' L S z) : wR call m Q pc L (.int y :: .int x :: S) z := by
  subst hx hy
  exact w_icgt h1 ht hp (fun h => k1 ((nI_ltI hb ha).mp h)) (fun h => k2 (Nat.not_lt.mp (fun e => h ((nI_ltI hb ha).mpr e))))
theorem w_icle (h1 : aAt m pc = some (.if_icmp .le off)) (ht : ((pc : Int) + off).toNat? = some t) (hp : pc + 3 = pc') (k1 : x ≤ y → wR call m Q t L S z) (k2 : ¬ (x ≤ y) → wR call m Q pc' L S z) : wR call m Q pc L (.int y :: .int x :: S) z := by
  subst hp
  exact w_br h1 (fun _ _ => ⟨inferInstance, a_brt ht⟩) k1 k2
theorem w_ncle (h1 : aAt m pc = some (.if_icmp .le off)) (ht : ((pc : Int) + off).toNat? = some t) (hp : pc + 3 = pc') (hx : x = nI a) (hy : y = nI b) (ha : a < 2 ^ 31) (hb : b < 2 ^ 31) (k1 : a ≤ b → wR call m Q t L S z) (k2 : b < a → wR call m Q pc' L S z) : wR call m Q pc L (.int y :: .int x :: S) z := by
  subst hx hy
  exact w_icle h1 ht hp (fun h => k1 ((nI_leI ha hb).mp h)) (fun h => k2 (Nat.not_le.mp (fun e => h ((nI_leI ha hb).mpr e))))
theorem w_ifeq (h1 : aAt m pc = some (.ifCond .eq off)) (ht : ((pc : Int) + off).toNat? = some t) (hp : pc + 3 = pc') (k1 : x = 0 → wR call m Q t L S z) (k2 : ¬ (x = 0) → wR call m Q pc' L S z) : wR call m Q pc L (.int x :: S) z := by
  subst hp
  exact w_br h1 (fun _ _ => ⟨inferInstance, a_brt ht⟩) k1 k2
theorem w_ifne (h1 : aAt m pc = some (.ifCond .ne off)) (ht : ((pc : Int) + off).toNat? = some t) (hp : pc + 3 = pc') (k1 : ¬ x = 0 → wR call m Q t L S z) (k2 : ¬ (¬ x = 0) → wR call m Q pc' L S z) : wR call m Q pc L (.int x :: S) z := by
  subst hp
  exact w_br h1 (fun _ _ => ⟨inferInstance, a_brt ht⟩) k1 k2
theorem w_iflt (h1 : aAt m pc = some (.ifCond .lt off)) (ht : ((pc : Int) + off).toNat? = some t) (hp : pc + 3 = pc') (k1 : x < 0 → wR call m Q t L S z) (k2 : ¬ (x < 0) → wR call m Q pc' L S z) : wR call m Q pc L (.int x :: S) z := by
  subst hp
  exact w_br h1 (fun _ _ => ⟨inferInstance, a_brt ht⟩) k1 k2
theorem w_ifge (h1 : aAt m pc = some (.ifCond .ge off)) (ht : ((pc : Int) + off).toNat? = some t) (hp : pc + 3 = pc') (k1 : 0 ≤ x → wR call m Q t L S z) (k2 : ¬ (0 ≤ x) → wR call m Q pc' L S z) : wR call m Q pc L (.int x :: S) z := by
  subst hp
  exact w_br h1 (fun _ _ => ⟨inferInstance, a_brt ht⟩) k1 k2
theorem w_ifgt (h1 : aAt m pc = some (.ifCond .gt off)) (ht : ((pc : Int) + off).toNat? = some t) (hp : pc + 3 = pc') (k1 : 0 < x → wR call m Q t L S z) (k2 : ¬ (0 < x) → wR call m Q pc' L S z) : wR call m Q pc L (.int x :: S) z := by
  subst hp
  exact w_br h1 (fun _ _ => ⟨inferInstance, a_brt ht⟩) k1 k2
theorem w_ifle (h1 : aAt m pc = some (.ifCond .le off)) (ht : ((pc : Int) + off).toNat? = some t) (hp : pc + 3 = pc') (k1 : x ≤ 0 → wR call m Q t L S z) (k2 : ¬ (x ≤ 0) → wR call m Q pc' L S z) : wR call m Q pc L (.int x :: S) z := by
  subst hp
  exact w_br h1 (fun _ _ => ⟨inferInstance, a_brt ht⟩) k1 k2
theorem w_ae {u v : Option Nat} (h1 : aAt m pc = some (.if_acmp .eq off)) (ht : ((pc : Int) + off).toNat? = some t) (hp : pc + 3 = pc') (hc : a_cmp u v = true) (k1 : u = v → wR call m Q t L S z) (k2 : ¬ u = v → wR call m Q pc' L S z) : wR call m Q pc L (va_rf v :: va_rf u :: S) z := by
  subst hp
  refine w_br h1 (fun _ _ => ⟨inferInstance, ?_⟩) k1 k2
  show a_ifa true pc off L (va_rf v :: va_rf u :: S) z = _
  have e1 : a_ref (va_rf v) = some v := by cases v <;> rfl
  have e2 : a_ref (va_rf u) = some u := by cases u <;> rfl
  unfold a_ifa
  simp only [e1, e2]
  rw [if_pos hc, if_pos trivial]
  exact a_brt ht
theorem w_an {u v : Option Nat} (h1 : aAt m pc = some (.if_acmp .ne off)) (ht : ((pc : Int) + off).toNat? = some t) (hp : pc + 3 = pc') (hc : a_cmp u v = true) (k1 : ¬ u = v → wR call m Q t L S z) (k2 : u = v → wR call m Q pc' L S z) : wR call m Q pc L (va_rf v :: va_rf u :: S) z := by
  subst hp
  refine w_br (c := ¬ u = v) h1 (fun _ _ => ⟨inferInstance, ?_⟩) k1 (fun h => k2 (Classical.not_not.mp h))
  show a_ifa false pc off L (va_rf v :: va_rf u :: S) z = _
  have e1 : a_ref (va_rf v) = some v := by cases v <;> rfl
  have e2 : a_ref (va_rf u) = some u := by cases u <;> rfl
  unfold a_ifa
  simp only [e1, e2]
  rw [if_pos hc, if_neg (by decide)]
  exact a_brt ht
theorem w_inull {u : Option Nat} (h1 : aAt m pc = some (.ifnull off)) (ht : ((pc : Int) + off).toNat? = some t) (hp : pc + 3 = pc') (k1 : u = none → wR call m Q t L S z) (k2 : ∀ b, u = some b → wR call m Q pc' L S z) : wR call m Q pc L (va_rf u :: S) z := by
  subst hp
  cases u with
  | none =>
    refine w_nx (pc' := t) (L' := L) (S' := S) (z1 := z) ?_ (k1 rfl)
    rw [a_nxi h1]
    exact a_jpt ht
  | some b =>
    refine w_nx (pc' := pc + 3) (L' := L) (S' := S) (z1 := z) ?_ (k2 b rfl)
    rw [a_nxi h1]
    rfl
theorem w_inon {u : Option Nat} (h1 : aAt m pc = some (.ifnonnull off)) (ht : ((pc : Int) + off).toNat? = some t) (hp : pc + 3 = pc') (k1 : ∀ b, u = some b → wR call m Q t L S z) (k2 : u = none → wR call m Q pc' L S z) : wR call m Q pc L (va_rf u :: S) z := by
  subst hp
  cases u with
  | none =>
    refine w_nx (pc' := pc + 3) (L' := L) (S' := S) (z1 := z) ?_ (k2 rfl)
    rw [a_nxi h1]
    rfl
  | some b =>
    refine w_nx (pc' := t) (L' := L) (S' := S) (z1 := z) ?_ (k1 b rfl)
    rw [a_nxi h1]
    exact a_jpt ht
end BRS
