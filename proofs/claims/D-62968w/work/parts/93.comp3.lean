/-! TraceWarden.compile, the walk -/
set_option maxRecDepth 100000
theorem cm_100 {X : Nat → Prop} {z z' : aSt} (f : fr (fun b => b = 100) z z') (hs : stat z) (h100 : ∀ k, gR z' 100 k = gR z 100 k) : cmR N1 X z z' := by
  have k : ∀ b, b < 468 → b ≠ 100 → ∀ k, gI z' b k = gI z b k ∧ gR z' b k = gR z b k := fun b hb hn k => by
    have := f.2.2 b (stat_lv hs hb) hn k
    exact ⟨this.1, this.2.2⟩
  exact ⟨fr_mono f fun b _ g => .inl (by unfold N1; omega), h100, fun j => (k 101 (by decide) (by decide) j).2, fun j => (k 104 (by decide) (by decide) j).2, fun j => (k 263 (by decide) (by decide) j).2, fun j _ => (k 345 (by decide) (by decide) j).2, (k 345 (by decide) (by decide) 3).1, (k 101 (by decide) (by decide) 1).1⟩
theorem CI_100 {z z' : aSt} {tx : List Nat} {rs : List Nat} {e c : Nat} {ps : List Nat} {e1 c1 : Nat} {gs : List Nat} {e2 c2 : Nat} (h : CI z tx rs e c ps e1 c1 gs e2 c2) (f : fr (fun b => b = 100) z z') (h100 : ∀ k, k ≠ 16 → k ≠ 19 → gR z' 100 k = gR z 100 k) : CI z' tx rs e c ps e1 c1 gs e2 c2 := by
  have hs := h.1
  exact CI_fr h f (fun b g => .inl g) h100 (fun k => (f.2.2 263 (stat_lv hs (by decide)) (by decide) k).2.2) (fun k _ => (f.2.2 345 (stat_lv hs (by decide)) (by decide) k).2.2) ((f.2.2 345 (stat_lv hs (by decide)) (by decide) 3).1)
/-- what is behind reach -/
def rcT (T : Tr) (q : List (List Nat) × List Nat) (z4 : aSt) : Prop := gI z4 100 3 = nI q.1.length ∧ 1 ≤ q.1.length ∧ q.1.length ≤ 40 ∧ q.2.length = 8 * q.1.length ∧ (∀ i, i < q.1.length → isRow z4 (351 + 2 * i) (cw (wid T true) (obG T) (q.1.getD i []))) ∧ toA z4 q.1.length (fun i => q.2.getD i 0) ∧ gI z4 104 0 = nI (wid T true)
/-- the second half: no way to give up any more -/
theorem x_compB {d : Nat} {tx : List Nat} {rs : List Nat} {e c : Nat} {ps : List Nat} {e1 c1 : Nat} {gs : List Nat} {e2 c2 : Nat} {z z4 : aSt} {rs' : List Nat} {e' c' : Nat} {ps' : List Nat} {e1' c1' : Nat} {T : Tr} {q : List (List Nat) × List Nat} {w : Nat} (h9 : wid T true ≤ 9) (h : CI z4 tx rs' e' c' ps' e1' c1' gs e2 c2) (cm : cmR N1 (fun b => b = e2) z z4) (h100 : ∀ k, k ≠ 3 → gI z4 100 k = gI z 100 k) (hp : pot rs c ps c1 z rs' c' ps' c1' z4 0 0) (t : rcT T q z4) : wR (aEx (d + 2)) aM_X1_compile (fun o z' => o = .inl (some (.int (nI (aft (wid T true) (obG T) q).1))) ∧ monR z' (aft (wid T true) (obG T) q).1 (aft (wid T true) (obG T) q).2.2.2 ∧ gR z' 345 7 = some 263 ∧ gI z' 345 5 = nI (bitsOf (aft (wid T true) (obG T) q).1) ∧ gI z' 345 6 = nI 0 ∧ gI z' 100 11 = nI (wid T true) ∧ gI z' 100 12 = nI q.1.length ∧ gI z' 100 15 = -1 ∧ (∀ k, k ≠ 3 → k ≠ 11 → k ≠ 12 → k ≠ 15 → gI z' 100 k = gI z 100 k) ∧ wid T true ≤ 9 ∧ q.1.length ≤ 40 ∧ cmR N2 (fun b => b = e2) z z' ∧ cpQ tx rs e c ps e1 c1 gs e2 c2 z 0 0 z') 44 [some (.ref 100), some (.ref w), none] [] z4 := by
  obtain ⟨t1, t2, t3, t4, t5, t6, t7⟩ := t
  have hs := h.1
  have w4 := hs.1
  have hT : (gT z4 100).1 = 0 := by rw [w4.1]
  refine w_nx (pc' := 45) rfl ?_
  obtain ⟨o, z5, e5, q1, f5, l5⟩ := x_fail (d := d + 1) (B := bad0 (wid T true) (obG T) q.1) (U := fun i => cw (wid T true) (obG T) (q.1.getD i [])) w4 t1 t3 t6 t5 (fun i hi => bad0_t)
  subst q1
  refine w_cal (pc' := 48) rfl (a_cv0 rfl rfl rfl (hT) rfl rfl) (e5) ?_
  have w5 := twS_frI w4 f5
  have hT5 : (gT z5 100).1 = 0 := by rw [w5.1]
  have c5 : gI z5 100 3 = nI q.1.length := (f5.2.2.2.2.2 100 (by decide) 3).trans t1
  have to5 := toA_frI t6 f5 (by decide)
  refine w_nx (pc' := 49) rfl ?_
  obtain ⟨o, z6, e6, q1, f6, l6⟩ := x_part (d := d) w5 c5 t3 to5 (bo_w _) l5
  subst q1
  refine w_cal (pc' := 52) rfl (a_cv0 rfl rfl rfl (hT5) rfl rfl) (e6) ?_
  have w6 := twS_frI w5 f6
  have hT6 : (gT z6 100).1 = 0 := by rw [w6.1]
  have c6 : gI z6 100 3 = nI q.1.length := (f6.2.2.2.2.2 100 (by unfold F9; decide) 3).trans c5
  have to6 := toA_frI to5 f6 (by unfold F9; decide)
  have f46 : frI F9 z4 z6 := frI_trans (frI_mono f5 fun b g => .inl g) f6
  have M6 : monS z6 := by
    obtain ⟨m1, m2, m3, m4⟩ := hs.2.1
    have ti : ∀ b, b < 468 → gT z6 b = gT z4 b := fun b hb => f46.fr.2.1 b (twS_lv w4 hb)
    have ri : ∀ b k, gR z6 b k = gR z4 b k := fun b k => by rw [f46.2.2.1]
    refine ⟨(ti _ (by decide)).trans m1, (ri _ _).trans m2, (ti _ (by decide)).trans m3, fun i hi => ?_⟩
    obtain ⟨a1, a2, a3, a4, a5⟩ := m4 i hi
    exact ⟨(ri _ _).trans a1, (ti _ (by omega)).trans a2, (f46.2.2.2.2.2 _ (by unfold F9; omega) 0).trans a3, (ri _ _).trans a4, (ti _ (by omega)).trans a5⟩
  have hT63 : (gT z6 263).1 = 5 := by rw [M6.1]
  have hlw : lkw (lkF (wid T true) (obG T) q) := prt_w _ _ (bo_w _)
  refine w_nx (pc' := 53) rfl ?_
  refine w_nx (pc' := 54) rfl ?_
  refine w_getR rfl rfl (hT6) (congrArg va_rf (w6.2.2.1.2.2.2.2.2.2.2.2.1)) rfl ?_
  obtain ⟨o, z7, e7, q1, y1, y2, y3, y4, y5, f7⟩ := x_number (d := d + 1) (lk := lkF (wid T true) (obG T) q) w6 M6 c6 t2 t3 to6 hlw l6
  subst q1
  refine w_cal (pc' := 60) rfl (a_cv0 rfl rfl rfl (hT6) rfl rfl) (e7) ?_
  have w7 := twS_nm w6 f7
  have M7 := monS_nm M6 w6 f7
  have hT7 : (gT z7 100).1 = 0 := by rw [w7.1]
  have hT73 : (gT z7 263).1 = 5 := by rw [M7.1]
  have ti7 : ∀ b, b < 468 → gT z7 b = gT z4 b := fun b hb => (f7.1.2.1 b (twS_lv w6 hb)).trans (f46.fr.2.1 b (twS_lv w4 hb))
  have hT75 : (gT z7 345).1 = 7 := by rw [ti7 345 (by decide), hs.2.2.1.1]
  have hm40 : (aft (wid T true) (obG T) q).1 ≤ 40 := Nat.le_trans y2 t3
  have y1' : gI z7 263 1 = nI (aft (wid T true) (obG T) q).1 := y1
  have mr7 : monR z7 (aft (wid T true) (obG T) q).1 (aft (wid T true) (obG T) q).2.2.2 := ⟨y1, hm40, y3, y4, y5⟩
  generalize hmm : aft (wid T true) (obG T) q = mm at hm40 y1' mr7 ⊢
  refine w_nx (pc' := 61) rfl ?_
  refine w_getR rfl rfl (hT7) (congrArg va_rf (w7.2.2.1.2.2.2.2.2.2.2.2.2.1)) rfl ?_
  refine w_nx (pc' := 65) rfl ?_
  refine w_getR rfl rfl (hT7) (congrArg va_rf (w7.2.2.1.2.2.2.2.2.2.2.2.1)) rfl ?_
  obtain ⟨o, z8, e8, q1, q2⟩ := x_plan (d := d + 1) hT75 hT73 y1' hm40
  subst q1
  rw [q2] at e8
  refine w_cal (pc' := 71) rfl (a_cv0 rfl rfl rfl (hT75) rfl rfl) (e8) ?_
  have R8 : ∀ b, b ≠ 345 → ∀ k, gR (plnZ z7 mm.1) b k = gR z7 b k := fun b hb k => gR_ne hb
  have I8 : ∀ b, b ≠ 345 → ∀ k, gI (plnZ z7 mm.1) b k = gI z7 b k := fun b hb k => (gI_ne hb).trans (gI_ne hb)
  have h7 : gR (plnZ z7 mm.1) 345 7 = some 263 := gR_same ..
  have h5 : gI (plnZ z7 mm.1) 345 5 = nI (bitsOf mm.1) := gI_same ..
  have h6 : gI (plnZ z7 mm.1) 345 6 = nI 0 := (gI_nk (by decide)).trans (gI_same ..)
  have h3 : gI (plnZ z7 mm.1) 345 3 = gI z7 345 3 := (gI_nk (by decide)).trans (gI_nk (by decide))
  have R85 : ∀ k, k ≠ 7 → gR (plnZ z7 mm.1) 345 k = gR z7 345 k := fun k hk => gR_nk hk
  have T8 : ∀ b, gT (plnZ z7 mm.1) b = gT z7 b := fun b => rfl
  have Z8 : gZ (plnZ z7 mm.1) = gZ z7 := rfl
  have S8 : gS (plnZ z7 mm.1) = gS z7 := rfl
  have fr8 : fr (fun b => b = 345) z7 (plnZ z7 mm.1) := fr_trans (fr_trans (fr_sR fun _ => rfl) (fr_sI fun _ => rfl)) (fr_sI fun _ => rfl)
  generalize plnZ z7 mm.1 = z8 at R8 I8 h7 h5 h6 h3 R85 T8 Z8 S8 fr8 ⊢
  have hT8 : (gT z8 100).1 = 0 := by rw [T8]; exact hT7
  have hT84 : (gT z8 104).1 = 3 := by rw [T8, ti7 104 (by decide), hs.2.2.2.1.1]
  have hT83 : (gT z8 263).1 = 5 := by rw [T8]; exact hT73
  have n7 : ∀ b, b < 468 → ¬ nmF b → ¬ F9 b → ∀ k, gI z7 b k = gI z4 b k ∧ gR z7 b k = gR z4 b k := fun b hb h1 h2 k => ⟨((f7.1.2.2 b (twS_lv w6 hb) h1 k).1).trans (f46.2.2.2.2.2 b h2 k), ((f7.1.2.2 b (twS_lv w6 hb) h1 k).2.2).trans (by rw [f46.2.2.1])⟩
  have g104 : gI z8 104 0 = nI (wid T true) := (I8 _ (by decide) _).trans (((n7 104 (by decide) (by unfold nmF; omega) (by unfold F9; omega) 0).1).trans t7)
  have r1 : gR z8 100 1 = some 104 := (R8 _ (by decide) _).trans w7.2.2.1.2.1
  have r9 : gR z8 100 9 = some 263 := (R8 _ (by decide) _).trans w7.2.2.1.2.2.2.2.2.2.2.2.1
  have i1003 : gI z8 100 3 = nI q.1.length := (I8 _ (by decide) _).trans (((f7.1.2.2 100 (twS_lv w6 (by decide)) (by unfold nmF; omega) 3).1).trans c6)
  have i2631 : gI z8 263 1 = nI mm.1 := (I8 _ (by decide) _).trans y1'
  refine w_nx (pc' := 72) rfl ?_
  refine w_nx (pc' := 73) rfl ?_
  refine w_getR rfl rfl (hT8) (congrArg va_rf (r1)) rfl ?_
  refine w_getI rfl rfl (hT84) rfl rfl ?_
  refine w_top (g104) ?_
  refine w_put rfl rfl (hT8) (by omega) rfl rfl rfl ?_
  have hT9 : (gT (sI z8 100 11 (nI (wid T true))) 100).1 = 0 := hT8
  have i1003' : gI (sI z8 100 11 (nI (wid T true))) 100 3 = nI q.1.length := (gI_nk (by decide)).trans i1003
  refine w_nx (pc' := 83) rfl ?_
  refine w_nx (pc' := 84) rfl ?_
  refine w_getI rfl rfl (hT9) rfl rfl ?_
  refine w_top (i1003') ?_
  refine w_put rfl rfl (hT9) (by omega) rfl rfl rfl ?_
  have hT10 : (gT (sI (sI z8 100 11 (nI (wid T true))) 100 12 (nI q.1.length)) 100).1 = 0 := hT8
  refine w_nx (pc' := 91) rfl ?_
  refine w_nx (pc' := 92) (S' := .int ((-1)) :: _) rfl ?_
  refine w_put rfl rfl (hT10) (by omega) rfl rfl rfl ?_
  have hz9 : ∀ k, k ≠ 11 → k ≠ 12 → k ≠ 15 → gI (sI (sI (sI z8 100 11 (nI (wid T true))) 100 12 (nI q.1.length)) 100 15 (-1)) 100 k = gI z8 100 k := fun k h1 h2 h3 => (gI_nk h3).trans ((gI_nk h2).trans (gI_nk h1))
  have I9 : ∀ b, b ≠ 100 → ∀ k, gI (sI (sI (sI z8 100 11 (nI (wid T true))) 100 12 (nI q.1.length)) 100 15 (-1)) b k = gI z8 b k := fun b hb k => (gI_ne hb).trans ((gI_ne hb).trans (gI_ne hb))
  have R9 : ∀ b k, gR (sI (sI (sI z8 100 11 (nI (wid T true))) 100 12 (nI q.1.length)) 100 15 (-1)) b k = gR z8 b k := fun b k => rfl
  have T9 : ∀ b, gT (sI (sI (sI z8 100 11 (nI (wid T true))) 100 12 (nI q.1.length)) 100 15 (-1)) b = gT z8 b := fun b => rfl
  have a11 : gI (sI (sI (sI z8 100 11 (nI (wid T true))) 100 12 (nI q.1.length)) 100 15 (-1)) 100 11 = nI (wid T true) := (gI_nk (by decide)).trans ((gI_nk (by decide)).trans (gI_same ..))
  have a12 : gI (sI (sI (sI z8 100 11 (nI (wid T true))) 100 12 (nI q.1.length)) 100 15 (-1)) 100 12 = nI q.1.length := (gI_nk (by decide)).trans (gI_same ..)
  have a15 : gI (sI (sI (sI z8 100 11 (nI (wid T true))) 100 12 (nI q.1.length)) 100 15 (-1)) 100 15 = -1 := gI_same ..
  have Z9 : gZ (sI (sI (sI z8 100 11 (nI (wid T true))) 100 12 (nI q.1.length)) 100 15 (-1)) = gZ z8 := rfl
  have S9 : gS (sI (sI (sI z8 100 11 (nI (wid T true))) 100 12 (nI q.1.length)) 100 15 (-1)) = gS z8 := rfl
  have fr9 : fr (fun b => b = 100) z8 (sI (sI (sI z8 100 11 (nI (wid T true))) 100 12 (nI q.1.length)) 100 15 (-1)) := fr_trans (fr_trans (fr_sI fun _ => rfl) (fr_sI fun _ => rfl)) (fr_sI fun _ => rfl)
  generalize sI (sI (sI z8 100 11 (nI (wid T true))) 100 12 (nI q.1.length)) 100 15 (-1) = z9 at hz9 I9 R9 T9 a11 a12 a15 Z9 S9 fr9 ⊢
  have hT93 : (gT z9 263).1 = 5 := by rw [T9]; exact hT83
  have hT90 : (gT z9 100).1 = 0 := by rw [T9]; exact hT8
  have r99 : gR z9 100 9 = some 263 := (R9 _ _).trans r9
  have i26319 : gI z9 263 1 = nI mm.1 := (I9 _ (by decide) _).trans i2631
  refine w_nx (pc' := 96) rfl ?_
  refine w_getR rfl rfl (hT90) (congrArg va_rf (r99)) rfl ?_
  refine w_getI rfl rfl (hT93) rfl rfl ?_
  refine w_top (i26319) ?_
  have gF : fr (fun b => b = 100 ∨ b = 345 ∨ F9 b ∨ nmF b) z4 z9 := fr_old (fr_old (fr_old (fr_mono f46.fr fun b _ g => .inr (.inr (.inl g))) f7.1 fun b _ g => .inr (.inr (.inr g))) fr8 fun b _ g => .inr (.inl g)) fr9 fun b _ g => .inl g
  have hF : ∀ b, (b = 100 ∨ b = 345 ∨ F9 b ∨ nmF b) → b = 100 ∨ b = 263 ∨ b = 345 ∨ (257 ≤ b ∧ b ≤ 260) ∨ (266 ≤ b ∧ b < 346 ∧ b % 2 = 0) := fun b g => by unfold F9 nmF at g; omega
  have rr100 : ∀ k, gR z9 100 k = gR z4 100 k := fun k => (R9 _ _).trans ((R8 _ (by decide) _).trans (n7 100 (by decide) (by unfold nmF; omega) (by unfold F9; omega) k).2)
  have rr263 : ∀ k, gR z9 263 k = gR z4 263 k := fun k => (R9 _ _).trans ((R8 _ (by decide) _).trans ((f7.2.2.2.1 k).trans (by rw [f46.2.2.1])))
  have rr345 : ∀ k, k ≠ 7 → gR z9 345 k = gR z4 345 k := fun k hk => (R9 _ _).trans ((R85 k hk).trans (n7 345 (by decide) (by unfold nmF; omega) (by unfold F9; omega) k).2)
  have i3453 : gI z9 345 3 = gI z4 345 3 := (I9 _ (by decide) _).trans (h3.trans (n7 345 (by decide) (by unfold nmF; omega) (by unfold F9; omega) 3).1)
  refine w_fin rfl ⟨rfl, ?_, (R9 _ _).trans h7, (I9 _ (by decide) _).trans h5, (I9 _ (by decide) _).trans h6, a11, a12, a15, fun k k3 k11 k12 k15 => ?_, h9, t3, cmR_trans (cmR_mono cm fun b => .inl) (cm_fr gF hF hs rr100 rr263 rr345 i3453), rs', e', c', ps', e1', c1', CI_fr h gF hF (fun k _ _ => rr100 k) rr263 rr345 i3453, ?_⟩
  · obtain ⟨b1, b2, b3, b4, b5⟩ := mr7
    refine ⟨i26319, b2, b3, fun i hi => ?_, b5⟩
    exact ((R9 _ _).trans (R8 _ (by omega) _)).trans (b4 i hi)
  · exact (hz9 k k11 k12 k15).trans ((I8 _ (by decide) _).trans (((n7 100 (by decide) (by unfold nmF; omega) (by unfold F9; omega) k).1).trans (h100 k k3)))
  · unfold pot at hp ⊢
    have z67 := f7.2.1
    have s67 := f7.2.2.1
    have z46 : gZ z6 = gZ z4 := f46.2.2.2.1
    have s46 : gS z6 = gS z4 := f46.2.2.2.2.1
    omega
