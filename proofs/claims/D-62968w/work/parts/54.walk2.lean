/-! Duties.walk, walked: the beginning -/
set_option maxRecDepth 100000
def bI (b : Bool) : Int32 := if b = true then nI 1 else nI 0
def bhd (z : aSt) : Prop := ∀ i, gR z 109 i ≠ some 16
theorem bhd_fr {ps : List Nat} {z z' : aSt} (h : bhd z) (f : frW ps z z') : bhd z' := by
  intro i e
  rcases f.2.2.2.2 i with g | ⟨b, g1, g2⟩
  · exact h i (g ▸ e)
  · rw [g2] at e
    have := Option.some.inj e
    omega
def walkQ (z : aSt) (T : Tr) (p : Nat) (due : Bool) (k : Nat) (o : aRes) (z' : aSt) : Prop :=
  (k + wid T due ≤ 9 ∧ o = .inl none ∧ gI z' 104 0 = nI (k + wid T due) ∧ (∀ i, i < k → kept (pts z T p) z z' i) ∧ numC z' T p due k ∧ frW (pts z T p) z z' ∧ gZ z' = gZ z ∧ gS z' = gS z) ∨
  (9 < k + wid T due ∧ ∃ x, o = .inr x ∧ gT z' x = (14, 0) ∧ frW (pts z T p) z z' ∧ gZ z' = gZ z + 1 ∧ gS z' = gS z + 6)
def walkS (d : Nat) (T : Tr) : Prop := ∀ (p : Nat) (due : Bool) (k : Nat) (z : aSt), repP z T p → (pts z T p).Nodup → dutT z → bhd z → gI z 104 0 = nI k → k ≤ 9 → aW d 56 [.ref 104, .ref p, .int (bI due)] z (walkQ z T p due k)
/-- its own number, if it is an obligation -/
theorem x_walkA {d p n k : Nat} {due : Bool} {z : aSt} {Q : aRes → aSt → Prop} (hp : okQ z p) (h0 : gR z p 0 = some n) (hn : n < 13) (hD : dutT z) (hk : gI z 104 0 = nI k) (h9 : k ≤ 9)
    (next : ∀ z2, (owns due n = 1 → gI z2 p 6 = nI k ∧ gR z2 105 k = some p) → gI z2 104 0 = nI (k + owns due n) → (∀ i, i < k → ent z2 i = ent z i) → frW [p] z z2 → gZ z2 = gZ z → gS z2 = gS z → k + owns due n ≤ 9 → wR (aEx (d + 1)) aM_X3_walk Q 33 [some (.ref 104), some (.ref p), some (.int (bI due)), none, none] [] z2)
    (thr : owns due n = 1 → k = 9 → Q (.inr (100 + gZ z)) (aNew z 14 0 6)) : aW (d + 2) 56 [.ref 104, .ref p, .int (bI due)] z Q := by
  have hT : (gT z 104).1 = 3 := by rw [hD.1]
  have hTp : (gT z p).1 = 10 := by rw [hp.1]
  have hp4 := hp.2.2
  have yes : owns due n = 1 → wR (aEx (d + 1)) aM_X3_walk Q 24 [some (.ref 104), some (.ref p), some (.int (bI due)), none, none] [] z := by
    intro ho
    refine w_nx (pc' := 25) rfl ?_
    refine w_nx (pc' := 26) rfl ?_
    refine w_nx (pc' := 27) rfl ?_
    by_cases hk9 : k = 9
    · have hm9 : gI z 104 0 = nI 9 := by rw [hk, hk9]
      obtain ⟨o, z1, e1, q1, q2⟩ := x_fresh9 (d := d) hD hm9 (.inr ⟨p, rfl⟩)
      subst q1 q2
      refine w_thr (a_cv0 rfl rfl rfl (hT) rfl rfl) (e1) rfl ?_
      exact thr ho hk9
    · obtain ⟨o, z1, e1, q1, q2⟩ := x_freshP (d := d) hD hk (by omega) hTp
      subst q1 q2
      refine w_cal (pc' := 30) rfl (a_cv0 rfl rfl rfl (hT) rfl rfl) (e1) ?_
      refine w_put rfl rfl hTp (by omega) rfl rfl rfl ?_
      refine next _ (fun _ => ⟨gI_same .., gR_same ..⟩) ?_ (fun i hi => ?_) ?_ rfl rfl (by omega)
      · rw [gI_ne (by omega), gI_same, ho]
      · have h1 : i ≠ k := by omega
        have h2 : (106 : Nat) ≠ p ∧ (107 : Nat) ≠ p ∧ (108 : Nat) ≠ p := by omega
        simp [ent, gI_sI, gR_sR, gI_sRq, gR_sIq, h1, h2]
      · exact frW_trans (frD_W (frD_trans (frD_sR (by decide) (.inl (by decide))) (frD_sI (.inr ⟨rfl, rfl⟩)))) (frW_sI (List.mem_singleton.mpr rfl) hp4 (.inl rfl))
  have no : owns due n = 0 → wR (aEx (d + 1)) aM_X3_walk Q 33 [some (.ref 104), some (.ref p), some (.int (bI due)), none, none] [] z := fun ho => next z (fun g => absurd (ho.symm.trans g) (by decide)) (by rw [ho]; exact hk) (fun _ _ => rfl) (frW_refl z) rfl rfl (by omega)
  refine w_of (k := 56) (m := aM_X3_walk) rfl rfl ?_
  refine w_nx (pc' := 1) rfl ?_
  cases hdue : due with
  | true =>
    refine w_ifne rfl rfl rfl (fun _ => ?_) (fun h => absurd (show ¬ nI 1 = 0 by decide) h)
    subst hdue
    exact yes rfl
  | false =>
    refine w_ifne rfl rfl rfl (fun h => absurd rfl h) (fun _ => ?_)
    subst hdue
    refine w_nx (pc' := 5) rfl ?_
    refine w_getR rfl rfl (hTp) (congrArg va_rf (h0)) rfl ?_
    refine w_nx (pc' := 11) rfl ?_
    refine w_ae (u := some n) (v := some 1) rfl rfl rfl (a_cmp_lt hn (by decide)) (fun h => ?_) (fun h1 => ?_)
    · exact yes (by unfold owns; rw [if_pos (.inr (.inl (Option.some.inj h)))])
    · refine w_nx (pc' := 15) rfl ?_
      refine w_getR rfl rfl (hTp) (congrArg va_rf (h0)) rfl ?_
      refine w_nx (pc' := 21) rfl ?_
      refine w_an (u := some n) (v := some 7) rfl rfl rfl (a_cmp_lt hn (by decide)) (fun h2 => ?_) (fun h => ?_)
      · refine no ?_
        unfold owns
        rw [if_neg]
        rintro (g | g | g)
        · cases g
        · exact h1 (congrArg some g)
        · exact h2 (congrArg some g)
      · exact yes (by unfold owns; rw [if_pos (.inr (.inr (Option.some.inj h)))])
