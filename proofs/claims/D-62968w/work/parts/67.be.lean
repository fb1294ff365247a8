/-! Part.be -/
set_option maxRecDepth 100000
/-- a Part made anew -/
def beP (z : aSt) (p k : Nat) (l r : Option Nat) : aSt := sI (sI (sI (sR (sR (sR z p 0 (some k)) p 1 l) p 2 r) p 3 (nI 0)) p 6 (-1)) p 7 (nI 0)
theorem x_be0 {d p k x y : Nat} {z : aSt} (hT : (gT z p).1 = 10) (hp : 100 ≤ p) : aW (d + 1) 147 [.ref p, .ref k, .null, .null] z (fun o z' => o = .inl (some (.ref p)) ∧ z' = beP z p k none none) := by
  refine w_of (k := 147) (m := aM_X10_be) rfl rfl ?_
  refine w_nx (pc' := 1) rfl ?_
  refine w_nx (pc' := 2) rfl ?_
  refine w_put rfl rfl (hT) (by omega) rfl rfl rfl ?_
  refine w_nx (pc' := 6) rfl ?_
  refine w_nx (pc' := 7) rfl ?_
  refine w_put rfl rfl (hT) (by omega) rfl rfl rfl ?_
  refine w_nx (pc' := 11) rfl ?_
  refine w_nx (pc' := 12) rfl ?_
  refine w_put rfl rfl (hT) (by omega) rfl rfl rfl ?_
  refine w_nx (pc' := 16) rfl ?_
  refine w_nx (pc' := 17) (S' := .int (nI 0) :: _) rfl ?_
  refine w_put rfl rfl (hT) (by omega) rfl rfl rfl ?_
  refine w_nx (pc' := 21) rfl ?_
  refine w_nx (pc' := 22) (S' := .int ((-1)) :: _) rfl ?_
  refine w_put rfl rfl (hT) (by omega) rfl rfl rfl ?_
  refine w_nx (pc' := 26) rfl ?_
  refine w_nx (pc' := 27) (S' := .int (nI 0) :: _) rfl ?_
  refine w_put rfl rfl (hT) (by omega) rfl rfl rfl ?_
  refine w_nx (pc' := 31) rfl ?_
  exact w_fin rfl (⟨rfl, rfl⟩)
theorem x_be1 {d p k x y : Nat} {z : aSt} (hT : (gT z p).1 = 10) (hp : 100 ≤ p) : aW (d + 1) 147 [.ref p, .ref k, .ref x, .null] z (fun o z' => o = .inl (some (.ref p)) ∧ z' = beP z p k (some x) none) := by
  refine w_of (k := 147) (m := aM_X10_be) rfl rfl ?_
  refine w_nx (pc' := 1) rfl ?_
  refine w_nx (pc' := 2) rfl ?_
  refine w_put rfl rfl (hT) (by omega) rfl rfl rfl ?_
  refine w_nx (pc' := 6) rfl ?_
  refine w_nx (pc' := 7) rfl ?_
  refine w_put rfl rfl (hT) (by omega) rfl rfl rfl ?_
  refine w_nx (pc' := 11) rfl ?_
  refine w_nx (pc' := 12) rfl ?_
  refine w_put rfl rfl (hT) (by omega) rfl rfl rfl ?_
  refine w_nx (pc' := 16) rfl ?_
  refine w_nx (pc' := 17) (S' := .int (nI 0) :: _) rfl ?_
  refine w_put rfl rfl (hT) (by omega) rfl rfl rfl ?_
  refine w_nx (pc' := 21) rfl ?_
  refine w_nx (pc' := 22) (S' := .int ((-1)) :: _) rfl ?_
  refine w_put rfl rfl (hT) (by omega) rfl rfl rfl ?_
  refine w_nx (pc' := 26) rfl ?_
  refine w_nx (pc' := 27) (S' := .int (nI 0) :: _) rfl ?_
  refine w_put rfl rfl (hT) (by omega) rfl rfl rfl ?_
  refine w_nx (pc' := 31) rfl ?_
  exact w_fin rfl (⟨rfl, rfl⟩)
theorem x_be2 {d p k x y : Nat} {z : aSt} (hT : (gT z p).1 = 10) (hp : 100 ≤ p) : aW (d + 1) 147 [.ref p, .ref k, .ref x, .ref y] z (fun o z' => o = .inl (some (.ref p)) ∧ z' = beP z p k (some x) (some y)) := by
  refine w_of (k := 147) (m := aM_X10_be) rfl rfl ?_
  refine w_nx (pc' := 1) rfl ?_
  refine w_nx (pc' := 2) rfl ?_
  refine w_put rfl rfl (hT) (by omega) rfl rfl rfl ?_
  refine w_nx (pc' := 6) rfl ?_
  refine w_nx (pc' := 7) rfl ?_
  refine w_put rfl rfl (hT) (by omega) rfl rfl rfl ?_
  refine w_nx (pc' := 11) rfl ?_
  refine w_nx (pc' := 12) rfl ?_
  refine w_put rfl rfl (hT) (by omega) rfl rfl rfl ?_
  refine w_nx (pc' := 16) rfl ?_
  refine w_nx (pc' := 17) (S' := .int (nI 0) :: _) rfl ?_
  refine w_put rfl rfl (hT) (by omega) rfl rfl rfl ?_
  refine w_nx (pc' := 21) rfl ?_
  refine w_nx (pc' := 22) (S' := .int ((-1)) :: _) rfl ?_
  refine w_put rfl rfl (hT) (by omega) rfl rfl rfl ?_
  refine w_nx (pc' := 26) rfl ?_
  refine w_nx (pc' := 27) (S' := .int (nI 0) :: _) rfl ?_
  refine w_put rfl rfl (hT) (by omega) rfl rfl rfl ?_
  refine w_nx (pc' := 31) rfl ?_
  exact w_fin rfl (⟨rfl, rfl⟩)
theorem x_beT {d p t : Nat} {z : aSt} (hT : (gT z p).1 = 10) (hp : 100 ≤ p) : aW (d + 2) 148 [.ref p, .int (nI t)] z (fun o z' => o = .inl (some (.ref p)) ∧ z' = sI (beP z p 0 none none) p 3 (nI t)) := by
  refine w_of (k := 148) (m := aM_X10_be_2) rfl rfl ?_
  refine w_nx (pc' := 1) rfl ?_
  refine w_nx (pc' := 4) rfl ?_
  refine w_nx (pc' := 5) rfl ?_
  refine w_nx (pc' := 6) rfl ?_
  obtain ⟨o, z1, e1, q1, q2⟩ := x_be0 (d := d) (k := 0) (x := 0) (y := 0) hT hp
  subst q1
  rw [q2] at e1
  refine w_cal (pc' := 9) rfl (a_cv0 rfl rfl rfl (hT) rfl rfl) (e1) ?_
  refine w_nx (pc' := 10) rfl ?_
  refine w_nx (pc' := 11) rfl ?_
  refine w_nx (pc' := 12) rfl ?_
  refine w_put rfl rfl ((show (gT (beP z p 0 none none) p).1 = 10 from hT)) (by omega) rfl rfl rfl ?_
  refine w_nx (pc' := 16) rfl ?_
  exact w_fin rfl (⟨rfl, rfl⟩)
