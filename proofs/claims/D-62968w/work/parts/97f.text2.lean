/-! TraceWarden.text -/
set_option maxRecDepth 100000
theorem lc0 : ∀ b, b < 256 → (lg_cmp (lN b) 0 = 0 ↔ b = 0) := by decide
theorem lc33 : ∀ b, b < 256 → (lg_cmp (lN b) 33 < 0 ↔ b < 33) := by decide
theorem lc126 : ∀ b, b < 256 → (lg_cmp (lN b) 126 ≤ 0 ↔ b ≤ 126) := by decide
theorem x_text1 {d : Nat} {x : Int64} {z : aSt} {Q : aRes → aSt → Prop} (hbad : ¬ goodB x → Q (.inl (some (.int (-1)))) z) (cont : goodB x → ∀ v4, (v4 = none ∨ ∃ y, v4 = some (.long y)) → wR (aEx d) aM_X1_text Q 61 [some (.ref 100), some (.long x), none, some (.int (nI (nbs x))), v4, none] [] z) : ∀ (f k : Nat) (v4 : Option Value), (v4 = none ∨ ∃ y, v4 = some (.long y)) → f + k = 8 → nbs x = nb x f k → (∀ i, i < k → 33 ≤ bw x i ∧ bw x i ≤ 126) → wR (aEx d) aM_X1_text Q 2 [some (.ref 100), some (.long x), none, some (.int (nI k)), v4, none] [] z := by
  intro f
  induction f with
  | zero =>
    intro k v4 hv4 hk hn hg
    have e : k = 8 := by omega
    have hn' : nbs x = k := hn
    refine w_nx (pc' := 3) rfl ?_
    refine w_nx (pc' := 5) (S' := .int (nI 8) :: _) rfl ?_
    refine w_ncge rfl rfl rfl rfl rfl (by omega) (by decide) (fun _ => ?_) (fun g => absurd g (by omega))
    rw [← hn']
    exact cont (fun i hi => hg i (by omega)) v4 hv4
  | succ f ih =>
    intro k v4 hv4 hk hn hg
    have hb := bw_lt x k
    refine w_nx (pc' := 3) rfl ?_
    refine w_nx (pc' := 5) (S' := .int (nI 8) :: _) rfl ?_
    refine w_ncge rfl rfl rfl rfl rfl (by omega) (by decide) (fun g => absurd g (by omega)) (fun _ => ?_)
    refine w_nx (pc' := 9) rfl ?_
    refine w_nx (pc' := 11) (S' := .int (nI 8) :: _) rfl ?_
    refine w_nx (pc' := 12) rfl ?_
    refine w_nx (pc' := 13) rfl ?_
    refine w_top (pk_mul _ _) ?_
    refine w_nx (pc' := 14) rfl ?_
    refine w_nx (pc' := 17) rfl ?_
    refine w_nx (pc' := 18) rfl ?_
    refine w_topL (l_ub x (by omega)) ?_
    refine w_nx (pc' := 19) rfl ?_
    refine w_nx (pc' := 20) rfl ?_
    by_cases c : bw x k = 0
    · refine w_ifeq rfl rfl rfl (fun _ => ?_) (fun g => absurd ((lc0 _ hb).mpr c) g)
      have hn' : nbs x = k := by
        rw [hn]
        show (if bw x k = 0 then k else _) = k
        rw [if_pos c]
      rw [← hn']
      exact cont (fun i hi => hg i (by omega)) v4 hv4
    · refine w_ifeq rfl rfl rfl (fun g => absurd ((lc0 _ hb).mp g) c) (fun _ => ?_)
      have hn' : nbs x = nb x f (k + 1) := by
        rw [hn]
        show (if bw x k = 0 then k else _) = _
        rw [if_neg c]
      have hlt : k < nbs x := by have := nb_le x f (k + 1); omega
      refine w_nx (pc' := 24) rfl ?_
      refine w_nx (pc' := 26) (S' := .int (nI 8) :: _) rfl ?_
      refine w_nx (pc' := 27) rfl ?_
      refine w_nx (pc' := 28) rfl ?_
      refine w_top (pk_mul _ _) ?_
      refine w_nx (pc' := 29) rfl ?_
      refine w_nx (pc' := 32) rfl ?_
      refine w_nx (pc' := 33) rfl ?_
      refine w_topL (l_ub x (by omega)) ?_
      rcases hv4 with rfl | ⟨y0, rfl⟩
      · refine w_nx (pc' := 35) rfl ?_
        refine w_nx (pc' := 37) rfl ?_
        refine w_nx (pc' := 40) rfl ?_
        refine w_nx (pc' := 41) rfl ?_
        have bad : ¬ (33 ≤ bw x k ∧ bw x k ≤ 126) → wR (aEx d) aM_X1_text Q 53 [some (.ref 100), some (.long x), none, some (.int (nI k)), some (.long (lN (bw x k))), none] [] z := by
          intro hn2
          refine w_nx (pc' := 54) (S' := .int ((-1)) :: _) rfl ?_
          exact w_fin rfl (hbad fun hgood => hn2 (hgood k hlt))
        by_cases c33 : bw x k < 33
        · exact w_iflt rfl rfl rfl (fun _ => bad (by omega)) (fun g => absurd ((lc33 _ hb).mpr c33) g)
        · refine w_iflt rfl rfl rfl (fun g => absurd ((lc33 _ hb).mp g) c33) (fun _ => ?_)
          refine w_nx (pc' := 46) rfl ?_
          refine w_nx (pc' := 49) rfl ?_
          refine w_nx (pc' := 50) rfl ?_
          by_cases c126 : bw x k ≤ 126
          · refine w_ifle rfl rfl rfl (fun _ => ?_) (fun g => absurd ((lc126 _ hb).mpr c126) g)
            refine w_iinc rfl rfl (nI_1 _) rfl rfl ?_
            refine w_nx (pc' := 2) rfl ?_
            refine ih (k + 1) _ (.inr ⟨_, rfl⟩) (by omega) hn' fun i hi => ?_
            by_cases ci : i = k
            · rw [ci]; exact ⟨by omega, c126⟩
            · exact hg i (by omega)
          · exact w_ifle rfl rfl rfl (fun g => absurd ((lc126 _ hb).mp g) c126) (fun _ => bad (by omega))
      · refine w_nx (pc' := 35) rfl ?_
        refine w_nx (pc' := 37) rfl ?_
        refine w_nx (pc' := 40) rfl ?_
        refine w_nx (pc' := 41) rfl ?_
        have bad : ¬ (33 ≤ bw x k ∧ bw x k ≤ 126) → wR (aEx d) aM_X1_text Q 53 [some (.ref 100), some (.long x), none, some (.int (nI k)), some (.long (lN (bw x k))), none] [] z := by
          intro hn2
          refine w_nx (pc' := 54) (S' := .int ((-1)) :: _) rfl ?_
          exact w_fin rfl (hbad fun hgood => hn2 (hgood k hlt))
        by_cases c33 : bw x k < 33
        · exact w_iflt rfl rfl rfl (fun _ => bad (by omega)) (fun g => absurd ((lc33 _ hb).mpr c33) g)
        · refine w_iflt rfl rfl rfl (fun g => absurd ((lc33 _ hb).mp g) c33) (fun _ => ?_)
          refine w_nx (pc' := 46) rfl ?_
          refine w_nx (pc' := 49) rfl ?_
          refine w_nx (pc' := 50) rfl ?_
          by_cases c126 : bw x k ≤ 126
          · refine w_ifle rfl rfl rfl (fun _ => ?_) (fun g => absurd ((lc126 _ hb).mpr c126) g)
            refine w_iinc rfl rfl (nI_1 _) rfl rfl ?_
            refine w_nx (pc' := 2) rfl ?_
            refine ih (k + 1) _ (.inr ⟨_, rfl⟩) (by omega) hn' fun i hi => ?_
            by_cases ci : i = k
            · rw [ci]; exact ⟨by omega, c126⟩
            · exact hg i (by omega)
          · exact w_ifle rfl rfl rfl (fun g => absurd ((lc126 _ hb).mp g) c126) (fun _ => bad (by omega))
/-- bytes are written behind the text -/
def txW (z : aSt) (n : Nat) (x : Int64) : Nat → aSt
  | 0 => z
  | k + 1 => sI (sI (txW z n x k) 101 1 (nI (n + k + 1))) 102 (n + k) (nI (bw x k))
theorem txW_I {z : aSt} {n : Nat} {x : Int64} : ∀ k b j, b ≠ 101 → b ≠ 102 → gI (txW z n x k) b j = gI z b j
  | 0, _, _, _, _ => rfl
  | k + 1, b, j, h1, h2 => (gI_ne h2).trans ((gI_ne h1).trans (txW_I k b j h1 h2))
theorem txW_0 {z : aSt} {n : Nat} {x : Int64} : ∀ k j, j ≠ 1 → gI (txW z n x k) 101 j = gI z 101 j
  | 0, _, _ => rfl
  | k + 1, j, h => (gI_ne (by decide)).trans ((gI_nk h).trans (txW_0 k j h))
theorem txW_n {z : aSt} {n : Nat} {x : Int64} (h : gI z 101 1 = nI n) : ∀ k, gI (txW z n x k) 101 1 = nI (n + k)
  | 0 => h
  | k + 1 => (gI_ne (by decide)).trans (gI_same ..)
theorem txW_T {z : aSt} {n : Nat} {x : Int64} : ∀ k, (txW z n x k).1 = z.1 ∧ (∀ b j, gR (txW z n x k) b j = gR z b j) ∧ gZ (txW z n x k) = gZ z ∧ gS (txW z n x k) = gS z
  | 0 => ⟨rfl, fun _ _ => rfl, rfl, rfl⟩
  | k + 1 => txW_T k
theorem txW_b {z : aSt} {n : Nat} {x : Int64} : ∀ k i, gI (txW z n x k) 102 i = if n ≤ i ∧ i < n + k then nI (bw x (i - n)) else gI z 102 i
  | 0, i => by
    rw [if_neg (by omega)]
    rfl
  | k + 1, i => by
    by_cases c : i = n + k
    · rw [c, if_pos (by omega)]
      show gI (sI _ 102 (n + k) _) 102 (n + k) = _
      rw [gI_same, Nat.add_sub_cancel_left]
    · show gI (sI (sI (txW z n x k) 101 1 _) 102 (n + k) _) 102 i = _
      rw [gI_nk c, gI_ne (by decide), txW_b k i]
      by_cases c2 : n ≤ i ∧ i < n + k
      · rw [if_pos c2, if_pos (by omega)]
      · rw [if_neg c2, if_neg (by omega)]
theorem fr_txW {z : aSt} {n : Nat} {x : Int64} : ∀ k, fr (fun b => b = 101 ∨ b = 102) z (txW z n x k)
  | 0 => fr_refl z
  | k + 1 => fr_trans (fr_trans (fr_txW k) (fr_sI fun _ => .inl rfl)) (fr_sI fun _ => .inr rfl)
theorem x_text2 {d n m : Nat} {x : Int64} {z : aSt} {Q : aRes → aSt → Prop} {v5 : Option Value} (hw : twS z) (hT1 : (gT z 101).1 = 1) (h0 : gR z 101 0 = some 102) (hT2 : gT z 102 = (41, 40)) (hn : gI z 101 1 = nI n) (hm : n + m ≤ 40) (hm8 : m ≤ 8) (cont : wR (aEx d) aM_X1_text Q 131 [some (.ref 100), some (.long x), none, some (.int (nI m)), some (.int (nI m)), v5] [] (txW z n x m)) : ∀ (f k : Nat), f + k = m → wR (aEx d) aM_X1_text Q 84 [some (.ref 100), some (.long x), none, some (.int (nI m)), some (.int (nI k)), v5] [] (txW z n x k) := by
  intro f
  induction f with
  | zero =>
    intro k hk
    have e : k = m := by omega
    subst e
    refine w_nx (pc' := 86) rfl ?_
    refine w_nx (pc' := 87) rfl ?_
    refine w_ncge rfl rfl rfl rfl rfl (by omega) (by omega) (fun _ => cont) (fun g => absurd g (by omega))
  | succ f ih =>
    intro k hk
    have ht := txW_T (z := z) (n := n) (x := x) k
    have T : ∀ b, gT (txW z n x k) b = gT z b := fun b => by show (txW z n x k).1 b = _; rw [ht.1]; rfl
    have hTa : (gT (txW z n x k) 100).1 = 0 := by rw [T, hw.1]
    have hTb : (gT (txW z n x k) 101).1 = 1 := by rw [T]; exact hT1
    have hTc : gT (txW z n x k) 102 = (41, 40) := by rw [T]; exact hT2
    have r0 : gR (txW z n x k) 100 0 = some 101 := (ht.2.1 _ _).trans hw.2.2.1.1
    have r1 : gR (txW z n x k) 101 0 = some 102 := (ht.2.1 _ _).trans h0
    have c1 := txW_n (x := x) hn k
    have hb := bw_lt x k
    refine w_nx (pc' := 86) rfl ?_
    refine w_nx (pc' := 87) rfl ?_
    refine w_ncge rfl rfl rfl rfl rfl (by omega) (by omega) (fun g => absurd g (by omega)) (fun _ => ?_)
    refine w_nx (pc' := 91) rfl ?_
    refine w_getR rfl rfl (hTa) (congrArg va_rf (r0)) rfl ?_
    refine w_getR rfl rfl (hTb) (congrArg va_rf (r1)) rfl ?_
    refine w_nx (pc' := 98) rfl ?_
    refine w_getR rfl rfl (hTa) (congrArg va_rf (r0)) rfl ?_
    refine w_nx (pc' := 102) rfl ?_
    refine w_getI rfl rfl (hTb) rfl rfl ?_
    refine w_top (c1) ?_
    refine w_nx (pc' := 106) rfl ?_
    refine w_nx (pc' := 107) (S' := .int (nI 1) :: _) rfl ?_
    refine w_nx (pc' := 108) rfl ?_
    refine w_top (nI_add _ _) ?_
    refine w_put rfl rfl (hTb) (by omega) rfl rfl rfl ?_
    refine w_nx (pc' := 112) rfl ?_
    refine w_nx (pc' := 114) (S' := .int (nI 8) :: _) rfl ?_
    refine w_nx (pc' := 116) rfl ?_
    refine w_nx (pc' := 117) rfl ?_
    refine w_top (pk_mul _ _) ?_
    refine w_nx (pc' := 118) rfl ?_
    refine w_nx (pc' := 121) rfl ?_
    refine w_nx (pc' := 122) rfl ?_
    refine w_topL (l_ub x (by omega)) ?_
    refine w_nx (pc' := 123) (S' := .int ((lN (bw x k)).toInt32) :: _) rfl ?_
    refine w_top (lN_i _) ?_
    refine w_nx (pc' := 124) (S' := .int (vp_nar .char (nI (bw x k))) :: _) rfl ?_
    refine w_top (nar_c (by omega)) ?_
    refine w_ast (f := vp_nar .char) rfl (fun _ _ _ _ _ _ => rfl) (show gT (sI (txW z n x k) 101 1 (nI (n + k + 1))) 102 = (41, 40) from hTc) (by decide) rfl (show n + k < 40 by omega) (by decide) rfl ?_
    rw [nar_c (by omega)]
    refine w_iinc rfl rfl (nI_1 _) rfl rfl ?_
    refine w_nx (pc' := 84) rfl ?_
    exact ih (k + 1) (by omega)
def textQ (x : Int64) (n : Nat) (z : aSt) (o : aRes) (z' : aSt) : Prop := ((¬ goodB x ∨ nbs x = 0 ∨ 40 < n + nbs x) ∧ o = .inl (some (.int (-1))) ∧ z' = z) ∨ (goodB x ∧ 1 ≤ nbs x ∧ n + nbs x ≤ 40 ∧ o = .inl (some (.int (nI (n + nbs x)))) ∧ z' = txW z n x (nbs x))
theorem x_text {d n : Nat} {x : Int64} {z : aSt} (hw : twS z) (hT1 : (gT z 101).1 = 1) (h0 : gR z 101 0 = some 102) (hT2 : gT z 102 = (41, 40)) (hn : gI z 101 1 = nI n) (h40 : n ≤ 40) : aW (d + 1) 8 [.ref 100, .long x] z (textQ x n z) := by
  have hT : (gT z 100).1 = 0 := by rw [hw.1]
  have h8 : nbs x ≤ 8 := by have := nb_le x 8 0; unfold nbs; omega
  refine w_of (k := 8) (m := aM_X1_text) rfl rfl ?_
  refine w_nx (pc' := 1) (S' := .int (nI 0) :: _) rfl ?_
  refine w_nx (pc' := 2) rfl ?_
  refine x_text1 (fun h => .inl ⟨.inl h, rfl, rfl⟩) (fun hg v4 hv4 => ?_) 8 0 _ (.inl rfl) rfl rfl (fun i hi => absurd hi (by omega))
  have bad : nbs x = 0 ∨ 40 < n + nbs x → ∀ v4, wR (aEx d) aM_X1_text (textQ x n z) 79 [some (.ref 100), some (.long x), none, some (.int (nI (nbs x))), v4, none] [] z := by
    intro h v4
    refine w_nx (pc' := 80) (S' := .int ((-1)) :: _) rfl ?_
    exact w_fin rfl (.inl ⟨.inr h, rfl, rfl⟩)
  refine w_nx (pc' := 62) rfl ?_
  by_cases c0 : nbs x = 0
  · have e0 : nI (nbs x) = 0 := by rw [c0]; rfl
    exact w_ifeq rfl rfl rfl (fun _ => bad (.inl c0) _) (fun g => absurd e0 g)
  · refine w_ifeq rfl rfl rfl (fun g => absurd (nI_inj (b := 0) (by omega) (by decide) g) c0) (fun _ => ?_)
    refine w_nx (pc' := 66) rfl ?_
    refine w_getR rfl rfl (hT) (congrArg va_rf (hw.2.2.1.1)) rfl ?_
    refine w_getI rfl rfl (hT1) rfl rfl ?_
    refine w_top (hn) ?_
    refine w_nx (pc' := 73) rfl ?_
    refine w_nx (pc' := 74) rfl ?_
    refine w_top (nI_add _ _) ?_
    refine w_nx (pc' := 76) (S' := .int (nI 40) :: _) rfl ?_
    by_cases c40 : n + nbs x ≤ 40
    · refine w_ncle rfl rfl rfl rfl rfl (by omega) (by decide) (fun _ => ?_) (fun g => absurd g (by omega))
      have ht := txW_T (z := z) (n := n) (x := x) (nbs x)
      have T : ∀ b, gT (txW z n x (nbs x)) b = gT z b := fun b => by show (txW z n x (nbs x)).1 b = _; rw [ht.1]; rfl
      have hTa : (gT (txW z n x (nbs x)) 100).1 = 0 := by rw [T, hw.1]
      have hTb : (gT (txW z n x (nbs x)) 101).1 = 1 := by rw [T]; exact hT1
      have r0 : gR (txW z n x (nbs x)) 100 0 = some 101 := (ht.2.1 _ _).trans hw.2.2.1.1
      have c1 := txW_n (x := x) hn (nbs x)
      rcases hv4 with rfl | ⟨y0, rfl⟩
      · refine w_nx (pc' := 82) (S' := .int (nI 0) :: _) rfl ?_
        refine w_nx (pc' := 84) rfl ?_
        refine x_text2 hw hT1 h0 hT2 hn c40 h8 ?_ (nbs x) 0 rfl
        refine w_nx (pc' := 132) rfl ?_
        refine w_getR rfl rfl (hTa) (congrArg va_rf (r0)) rfl ?_
        refine w_getI rfl rfl (hTb) rfl rfl ?_
        refine w_top (c1) ?_
        exact w_fin rfl (.inr ⟨hg, by omega, c40, rfl, rfl⟩)
      · refine w_nx (pc' := 82) (S' := .int (nI 0) :: _) rfl ?_
        refine w_nx (pc' := 84) rfl ?_
        refine x_text2 hw hT1 h0 hT2 hn c40 h8 ?_ (nbs x) 0 rfl
        refine w_nx (pc' := 132) rfl ?_
        refine w_getR rfl rfl (hTa) (congrArg va_rf (r0)) rfl ?_
        refine w_getI rfl rfl (hTb) rfl rfl ?_
        refine w_top (c1) ?_
        exact w_fin rfl (.inr ⟨hg, by omega, c40, rfl, rfl⟩)
    · exact w_ncle rfl rfl rfl rfl rfl (by omega) (by decide) (fun g => absurd g (by omega)) (fun _ => bad (.inr (by omega)) _)
