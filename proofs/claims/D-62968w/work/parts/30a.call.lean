/-! calls of methods of objects; arraycopy -/
section CALLS
variable {call : aRel} {m : aMi} {Q : aRes → aSt → Prop} {pc pc' : Nat} {L L' : List (Option Value)} {S S' S0 : List Value} {z z1 : aSt}
theorem a_cv0 {idx j n t a : Nat} (ha : aAt m pc = some (.invokevirtual idx)) (hc : aCal (mOwn m) idx = some (0, j, n, t)) (hd : S.drop n = .ref a :: S0) (hT : (gT z a).1 = t) (hn : Nat.ble n S.length = true) (h2 : Nat.ble S0.length 12 = true) : aCall m pc S z = some (j, .ref a :: (S.take n).reverse, S0) := by
  unfold aCall
  simp only [ha, hc, hd]
  rw [if_pos ⟨Nat.le_of_ble_eq_true hn, hT, Nat.le_of_ble_eq_true h2⟩]
theorem a_cv4 {idx j n t a : Nat} (ha : aAt m pc = some (.invokevirtual idx)) (hc : aCal (mOwn m) idx = some (4, j, n, t)) (hd : S.drop n = .ref a :: S0) (hT : (gT z a).1 = t) (hn : Nat.ble n S.length = true) (h2 : Nat.ble S0.length 12 = true) : aCall m pc S z = some (j, .ref a :: (S.take n).reverse, S0) := by
  unfold aCall
  simp only [ha, hc, hd]
  rw [if_pos ⟨Nat.le_of_ble_eq_true hn, hT, Nat.le_of_ble_eq_true h2⟩]
theorem a_cv5 {idx j n t a : Nat} (ha : aAt m pc = some (.invokespecial idx)) (hc : aCal (mOwn m) idx = some (5, j, n, t)) (hd : S.drop n = .ref a :: S0) (hT : (gT z a).1 = t) (hn : Nat.ble n S.length = true) (h2 : Nat.ble S0.length 12 = true) : aCall m pc S z = some (j, .ref a :: (S.take n).reverse, S0) := by
  unfold aCall
  simp only [ha, hc, hd]
  rw [if_pos ⟨Nat.le_of_ble_eq_true hn, hT, Nat.le_of_ble_eq_true h2⟩]
/-- n ints of s from sp on are written to d from dp on -/
def cI (z : aSt) (s sp d dp n : Nat) : aSt := (z.1, a_cpy z.2.1 s sp d dp n, z.2.2)
theorem w_acpI {i : Instr} {s sp d dp n ns nd : Nat} {x y w : Int32} (ha : aAt m pc = some i) (hs : aStep (mOwn m) (mIni m) i pc L (.int w :: .int y :: .ref d :: .int x :: .ref s :: S) z = a_acp (pc + 3) L (.int w :: .int y :: .ref d :: .int x :: .ref s :: S) z) (h1 : gT z s = (40, ns)) (h2 : gT z d = (40, nd)) (hA : 100 ≤ d) (hl : Nat.ble S.length 12 = true)
    (hx : x = nI sp) (hy : y = nI dp) (hw : w = nI n) (h3 : sp + n ≤ ns) (h4 : dp + n ≤ nd) (h5 : ns < 2 ^ 31) (h6 : nd < 2 ^ 31) (hp : pc + 3 = pc') (c : wR call m Q pc' L S (cI z s sp d dp n)) : wR call m Q pc L (.int w :: .int y :: .ref d :: .int x :: .ref s :: S) z := by
  subst hp hx hy hw
  refine w_nx (L' := L) (S' := S) (z1 := cI z s sp d dp n) ?_ c
  rw [a_nxi ha, hs]
  unfold a_acp
  simp only [h1, h2]
  rw [if_pos ⟨rfl, hA, Nat.le_of_ble_eq_true hl⟩, nI_clamp (by omega), nI_clamp (by omega), nI_clamp (by omega), if_neg ?_]
  · rfl
  · rintro (g | g | g | g | g)
    · exact nI_pos (by omega) g
    · exact nI_pos (by omega) g
    · exact nI_pos (by omega) g
    · omega
    · omega
end CALLS
