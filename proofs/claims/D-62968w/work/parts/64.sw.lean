/-! truthOf -/
set_option maxRecDepth 100000
theorem w_lsw {call : aRel} {m : aMi} {Q : aRes → aSt → Prop} {pc t : Nat} {L : List (Option Value)} {S : List Value} {z : aSt} {dflt off : Int} {ps : Array (Int × Int)} {x : Int32} (ha : aAt m pc = some (.lookupswitch dflt ps)) (hs : (ps.toList.zip (ps.toList.drop 1)).all (fun (a, next) => a.1 < next.1) = true) (ho : Op.lookupswitch.offset ps.toList dflt x.toInt = off) (ht : ((pc : Int) + off).toNat? = some t) (c : wR call m Q t L S z) : wR call m Q pc L (.int x :: S) z := by
  refine w_nx (L' := L) (S' := S) (z1 := z) ?_ c
  rw [a_nxi ha]
  show a_lsw dflt ps pc L (.int x :: S) z = _
  unfold a_lsw
  simp only []
  rw [if_pos hs, ho]
  exact a_jpt ht
theorem tv_off : ∀ n, n < 128 → lit n = none → Op.lookupswitch.offset [((48 : Int), (63 : Int)), (49, 65), (97, 51), (98, 55), (99, 59)] 69 (nI n).toInt = 69 := by decide
theorem x_truthOf {d n : Nat} {z : aSt} (hn : n < 128) : aW (d + 1) 42 [.int (nI n)] z (fun o z' => z' = z ∧ ((∃ v, lit n = some v ∧ o = .inl (some (.int (nI (bm (.inner 20 v 0 .leaf .leaf)))))) ∨ (lit n = none ∧ o = .inl (some (.int (-1)))))) := by
  refine w_of (k := 42) (m := aM_X2_truthOf) rfl rfl ?_
  refine w_nx (pc' := 1) rfl ?_
  by_cases h1 : n = 97
  · subst h1
    refine w_lsw (t := 52) rfl rfl rfl rfl ?_
    refine w_nx (pc' := 55) (S' := .int (nI 170) :: _) rfl ?_
    exact w_fin rfl (⟨rfl, .inl ⟨1, rfl, rfl⟩⟩)
  by_cases h2 : n = 98
  · subst h2
    refine w_lsw (t := 56) rfl rfl rfl rfl ?_
    refine w_nx (pc' := 59) (S' := .int (nI 204) :: _) rfl ?_
    exact w_fin rfl (⟨rfl, .inl ⟨2, rfl, rfl⟩⟩)
  by_cases h3 : n = 99
  · subst h3
    refine w_lsw (t := 60) rfl rfl rfl rfl ?_
    refine w_nx (pc' := 63) (S' := .int (nI 240) :: _) rfl ?_
    exact w_fin rfl (⟨rfl, .inl ⟨4, rfl, rfl⟩⟩)
  by_cases h4 : n = 48
  · subst h4
    refine w_lsw (t := 64) rfl rfl rfl rfl ?_
    refine w_nx (pc' := 65) (S' := .int (nI 0) :: _) rfl ?_
    exact w_fin rfl (⟨rfl, .inl ⟨0, rfl, rfl⟩⟩)
  by_cases h5 : n = 49
  · subst h5
    refine w_lsw (t := 66) rfl rfl rfl rfl ?_
    refine w_nx (pc' := 69) (S' := .int (nI 255) :: _) rfl ?_
    exact w_fin rfl (⟨rfl, .inl ⟨8, rfl, rfl⟩⟩)
  have hl : lit n = none := by
    unfold lit
    rw [if_neg h1, if_neg h2, if_neg h3, if_neg h4, if_neg h5]
  refine w_lsw (t := 70) rfl rfl (tv_off n hn hl) rfl ?_
  refine w_nx (pc' := 71) (S' := .int ((-1)) :: _) rfl ?_
  exact w_fin rfl (⟨rfl, .inr ⟨hl, rfl⟩⟩)
