/-! Reader.bool -/
set_option maxRecDepth 100000
theorem rdr_at {z : aSt} {tx : List Nat} {a b : Nat} (h : rdr z tx a) (hb : b ≤ 1000) : rdr (sI z 101 2 (nI b)) tx b := by
  obtain ⟨h1, h2, h3, h4, h5, h6, h7, h8, h9⟩ := h
  exact ⟨h1, h2, h3, (gI_nk (by decide)).trans h4, h5, fun i hi => (gI_ne (by decide)).trans (h6 i hi), h7, gI_same .., hb⟩
theorem tx_in {tx : List Nat} {a c : Nat} (h : tx.getD a 0 = c) (hc : c ≠ 0) : a < tx.length := by
  apply Nat.lt_of_not_le
  intro g
  rw [List.getD_eq_getElem?_getD, List.getElem?_eq_none g] at h
  exact hc h.symm
/-- the Reader gives up at e -/
def rX (z : aSt) (e : Nat) (o : aRes) (z' : aSt) : Prop := o = .inr (100 + gZ z) ∧ z' = aNew (sI z 101 2 (nI e)) 13 0 6
def boolQ (tx : List Nat) (f a : Nat) (z : aSt) (o : aRes) (z' : aSt) : Prop := (∃ t b, pB tx f a = .inr (t, b) ∧ b ≤ 1000 ∧ o = .inl (some (.int (nI (bm t)))) ∧ z' = sI z 101 2 (nI b)) ∨ (∃ e, pB tx f a = .inl e ∧ rX z e o z')
theorem x_bool0 {tx : List Nat} {d a : Nat} {z : aSt} {sg : Int32} (h : rdr z tx a) : aW (d + 2) 41 [.ref 101, .int (nI 13), .int sg] z (boolQ tx 0 a z) := by
  refine w_of (k := 41) (m := aM_X2_bool) rfl rfl ?_
  refine w_nx (pc' := 1) rfl ?_
  refine w_nx (pc' := 3) (S' := .int (nI 12) :: _) rfl ?_
  refine w_ncgt rfl rfl rfl (rfl) (rfl) (by omega) (by omega) (fun hb => ?_) (fun hb => ?_)
  · refine w_nx (pc' := 11) (S' := .int (nI 0) :: _) rfl ?_
    obtain ⟨o, z1, e1, q1, q2⟩ := x_need0 (d := d) (z := z)
    subst q1
    rw [q2] at e1
    refine w_thr (rfl) (e1) rfl ?_
    refine .inr ⟨a, rfl, rfl, ?_⟩
    rw [sI_id h.2.2.2.2.2.2.2.1]
  · omega
