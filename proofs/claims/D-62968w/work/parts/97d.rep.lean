/-! TraceWarden: report, said -/
set_option maxRecDepth 100000
def sNone : List Nat := [110, 111, 110, 101]
def sReady : List Nat := [114, 101, 97, 100, 121, 32]
def sFail : List Nat := [102, 97, 105, 108, 101, 100, 32]
def sBy' : List Nat := [32, 98, 121, 32]
def sRun : List Nat := [114, 117, 110, 32]
def sIn : List Nat := [32, 105, 110, 32]
def lits (z : aSt) : Prop := strR z 20 [] ∧ strR z 22 sNone ∧ strR z 24 sReady ∧ strR z 26 sFail ∧ strR z 28 sBy' ∧ strR z 30 sRun ∧ strR z 32 sIn ∧ (gR z 20 0 = some 21 ∧ gR z 22 0 = some 23 ∧ gR z 24 0 = some 25 ∧ gR z 26 0 = some 27 ∧ gR z 28 0 = some 29 ∧ gR z 30 0 = some 31 ∧ gR z 32 0 = some 33) ∧ digT z
theorem str_lo {F : Nat → Prop} {z z' : aSt} {s v : Nat} {cs : List Nat} (h : strR z s cs) (hv : gR z s 0 = some v) (f : fr F z z') (h1 : ¬ F s) (h2 : ¬ F v) : strR z' s cs ∧ gR z' s 0 = some v := ⟨strR_fr h f h1 (fun w hw => by rw [hv] at hw; rw [← Option.some.inj hw]; exact h2), ((f.2.2 s h.2.2.1 h1 0).2.2).trans hv⟩
theorem lits_fr {F : Nat → Prop} {z z' : aSt} (h : lits z) (f : fr F z z') (hF : ∀ b, 14 ≤ b → b < 40 → ¬ F b) : lits z' := by
  obtain ⟨a0, a1, a2, a3, a4, a5, a6, ⟨v0, v1, v2, v3, v4, v5, v6⟩, d1, d2, d3⟩ := h
  have g := fun b (h1 : 14 ≤ b) (h2 : b < 40) => hF b h1 h2
  have b0 := str_lo a0 v0 f (g _ (by decide) (by decide)) (g _ (by decide) (by decide))
  have b1 := str_lo a1 v1 f (g _ (by decide) (by decide)) (g _ (by decide) (by decide))
  have b2 := str_lo a2 v2 f (g _ (by decide) (by decide)) (g _ (by decide) (by decide))
  have b3 := str_lo a3 v3 f (g _ (by decide) (by decide)) (g _ (by decide) (by decide))
  have b4 := str_lo a4 v4 f (g _ (by decide) (by decide)) (g _ (by decide) (by decide))
  have b5 := str_lo a5 v5 f (g _ (by decide) (by decide)) (g _ (by decide) (by decide))
  have b6 := str_lo a6 v6 f (g _ (by decide) (by decide)) (g _ (by decide) (by decide))
  have l14 : lv z 14 := by unfold lv; omega
  have l15 : lv z 15 := by unfold lv; omega
  exact ⟨b0.1, b1.1, b2.1, b3.1, b4.1, b5.1, b6.1, ⟨b0.2, b1.2, b2.2, b3.2, b4.2, b5.2, b6.2⟩, (f.2.1 14 l14).trans d1, (f.2.1 15 l15).trans d2, fun k hk => ⟨((f.2.2 14 l14 (g _ (by decide) (by decide)) k).1).trans (d3 k hk).1, ((f.2.2 15 l15 (g _ (by decide) (by decide)) k).1).trans (d3 k hk).2⟩⟩
theorem dig_le (n : Nat) : (dig n).length ≤ 2 := by
  rw [dig_len]
  split <;> omega
/-- what is told -/
def rpT (cm : Option CM) (tm st wn : Option Nat) : List Nat := match cm with
  | none => sNone
  | some m => match tm with
    | none => sReady ++ dig m.1
    | some t => match st with
      | none => sFail ++ dig t ++ sBy' ++ dig (wn.getD 0)
      | some j => sRun ++ dig t ++ sIn ++ dig j
def rpR (z z' : aSt) (sd : List Nat) : Prop := fr (fun b => b = 100) z z' ∧ (∀ k, k ≠ 19 → gR z' 100 k = gR z 100 k) ∧ (∀ k, gI z' 100 k = gI z 100 k) ∧ (∃ s, gR z' 100 19 = some s ∧ strR z' s sd ∧ (s < 100 ∨ 100 + gZ z ≤ s)) ∧ gZ z' ≤ gZ z + 4 ∧ gS z' ≤ gS z + 40
/-- the end: the text is kept, its length answered -/
theorem x_repE {d s : Nat} {z z1 : aSt} {sd : List Nat} (hw : twS z) (f : fr (fun _ => False) z z1) (hs : strR z1 s sd) (hsn : s < 100 ∨ 100 + gZ z ≤ s) (hz : gZ z1 ≤ gZ z + 4) (hS : gS z1 ≤ gS z + 40) : wR (aEx (d + 2)) aM_X1_report (fun o z' => o = .inl (some (.int (nI sd.length))) ∧ rpR z z' sd) 146 [some (.ref 100)] [] (sR z1 100 19 (some s)) := by
  have l100 := twS_lv hw (show 100 < 468 by decide)
  have hT1 : (gT (sR z1 100 19 (some s)) 100).1 = 0 := by show (gT z1 100).1 = 0; rw [f.2.1 100 l100, hw.1]
  have hs' : strR (sR z1 100 19 (some s)) s sd := by
    obtain ⟨a1, a2, a3, v, t, a4, a5, a6, a7, a8, a9⟩ := hs
    have hne : s ≠ 100 := by
      intro e
      rw [e, f.2.1 100 l100, hw.1] at a1
      cases a1
    exact ⟨a1, a2, a3, v, t, (gR_ne hne).trans a4, a5, a6, a7, a8, a9⟩
  have hTs : (gT (sR z1 100 19 (some s)) s).1 = 12 := by rw [hs'.1]
  have g19 : gR (sR z1 100 19 (some s)) 100 19 = some s := gR_same ..
  refine w_nx (pc' := 147) rfl ?_
  refine w_getR rfl rfl (hT1) (congrArg va_rf (g19)) rfl ?_
  obtain ⟨o, z2, e2, q1, q2⟩ := j_slen (d := d) hs'
  subst q1
  rw [q2] at e2
  refine w_cal (pc' := 153) rfl (a_cv0 rfl rfl rfl (hTs) rfl rfl) (e2) ?_
  exact w_fin rfl ⟨rfl, fr_old (fr_mono f fun b _ g => g.elim) (fr_sR (F := fun b => b = 100) fun _ => rfl) (fun b _ g => g), fun k hk => (gR_nk hk).trans (f.2.2 100 l100 (fun g => g) k).2.2, fun k => (f.2.2 100 l100 (fun g => g) k).1, ⟨s, g19, hs', hsn⟩, hz, hS⟩
/-- a fresh StringBuilder -/
theorem sb_new {z : aSt} : gT (aNew z 11 0 4) (100 + gZ z) = (11, 0) ∧ (100 + gZ z) + 1 = 100 + gZ (aNew z 11 0 4) ∧ ∀ k, gI (aNew z 11 0 4) (100 + gZ z) k = 0 := ⟨by rw [gT_new, if_pos rfl], rfl, fun k => by rw [gI_new, if_pos rfl]⟩
theorem x_report {d : Nat} {z : aSt} {cm : Option CM} {tm st wn : Option Nat} (hw : twS z) (hm : monS z) (hl : lits z) (h11 : gI z 100 11 = oI (match cm with | none => none | some m => some m.2.1)) (h9 : ∀ m, cm = some m → m.2.1 ≤ 9 ∧ gI z 263 1 = nI m.1 ∧ m.1 ≤ 40) (h15 : cm ≠ none → gI z 100 15 = oI tm) (h60 : ∀ t, tm = some t → t ≤ 60 ∧ gR z 100 16 = nxS st ∧ gI z 100 17 = bI st.isNone ∧ (∀ j, st = some j → j < 40) ∧ (st = none → ∃ w, wn = some w ∧ w ≤ 60 ∧ gI z 100 18 = nI w)) : aW (d + 7) 13 [.ref 100] z (fun o z' => o = .inl (some (.int (nI (rpT cm tm st wn).length))) ∧ rpR z z' (rpT cm tm st wn)) := by
  have hT : (gT z 100).1 = 0 := by rw [hw.1]
  have hT3 : (gT z 263).1 = 5 := by rw [hm.1]
  have l100 := twS_lv hw (show 100 < 468 by decide)
  have lit := hl
  obtain ⟨a0, a1, a2, a3, a4, a5, a6, av, ad⟩ := hl
  have hzz := hw.2.1
  refine w_of (k := 13) (m := aM_X1_report) rfl rfl ?_
  refine w_nx (pc' := 1) rfl ?_
  refine w_getI rfl rfl (hT) rfl rfl ?_
  refine w_top (h11) ?_
  refine w_nx (pc' := 5) (S' := .int ((-1)) :: _) rfl ?_
  cases cm with
  | none =>
    refine w_icne rfl rfl rfl (fun g => absurd rfl g) (fun _ => ?_)
    refine w_nx (pc' := 9) rfl ?_
    refine w_nx (pc' := 11) rfl ?_
    refine w_put rfl rfl hT (by decide) rfl rfl rfl ?_
    refine w_nx (pc' := 146) rfl ?_
    exact x_repE (d := d + 4) hw (fr_refl z) a1 (.inl (by decide)) (by omega) (by omega)
  | some m =>
    obtain ⟨m9, m1, m40⟩ := h9 m rfl
    have h15' := h15 (by intro h; cases h)
    refine w_icne rfl rfl rfl (fun _ => ?_) (fun g => absurd (nI_nm (by omega)) g)
    refine w_nx (pc' := 18) rfl ?_
    refine w_getI rfl rfl (hT) rfl rfl ?_
    refine w_top (h15') ?_
    refine w_nx (pc' := 22) (S' := .int ((-1)) :: _) rfl ?_
    -- the StringBuilder
    have sb0 := sb_new (z := z)
    have fN : fr (fun _ => False) z (aNew z 11 0 4) := fr_new
    have zN : gZ (aNew z 11 0 4) = gZ z + 1 := rfl
    have sN : gS (aNew z 11 0 4) = gS z + 4 := rfl
    cases tm with
    | none =>
      refine w_icne rfl rfl rfl (fun g => absurd rfl g) (fun _ => ?_)
      refine w_nx (pc' := 26) rfl ?_
      refine w_nx (pc' := 29) rfl ?_
      refine w_nx (pc' := 30) rfl ?_
      generalize aNew z 11 0 4 = z1 at sb0 fN zN sN ⊢
      obtain ⟨o, z2, e2, q1, q2, q3, q4, q5⟩ := j_sbi (d := d + 4) sb0.1 (Nat.le_add_right _ _) sb0.2.1 sb0.2.2
      subst q1
      refine w_cal (pc' := 33) rfl (rfl) (e2) ?_
      have f2 : fr (fun _ => False) z z2 := fr_old fN q3 (fun b hb g => by unfold lv at hb; omega)
      have lit2 := lits_fr lit f2 (fun _ _ _ g => g)
      have hTb2 : (gT z2 (100 + gZ z)).1 = 11 := by rw [q2.1]
      refine w_nx (pc' := 35) rfl ?_
      obtain ⟨o, z3, e3, r1, r2, r3⟩ := j_app (d := d + 1) q2 lit2.2.2.1 (by decide)
      subst r1
      refine w_cal (pc' := 38) rfl (a_cv0 rfl rfl rfl (hTb2) rfl rfl) (e3) ?_
      have hTb3 : (gT z3 (100 + gZ z)).1 = 11 := by rw [r2.1]
      have f3 : fr (fun _ => False) z z3 := fr_old f2 r3.fr (fun b hb g => by unfold lv at hb; omega)
      have lit3 := lits_fr lit f3 (fun _ _ _ g => g)
      have k100 := f3.2.2 100 l100 (fun g => g)
      have hT03 : (gT z3 100).1 = 0 := by rw [f3.2.1 100 l100]; exact hT
      have hT33 : (gT z3 263).1 = 5 := by rw [f3.2.1 263 (twS_lv hw (by decide))]; exact hT3
      have r9 : gR z3 100 9 = some 263 := ((k100 9).2.2).trans hw.2.2.1.2.2.2.2.2.2.2.2.1
      have m13 : gI z3 263 1 = nI m.1 := ((f3.2.2 263 (twS_lv hw (by decide)) (fun g => g) 1).1).trans m1
      refine w_nx (pc' := 39) rfl ?_
      refine w_getR rfl rfl (hT03) (congrArg va_rf (r9)) rfl ?_
      refine w_getI rfl rfl (hT33) rfl rfl ?_
      refine w_top (m13) ?_
      have hd2 := dig_le m.1
      obtain ⟨o, z4, e4, s1, s2, s3⟩ := j_appI (d := d + 3) (n := m.1) r2 lit3.2.2.2.2.2.2.2.2 (by omega) (by show 6 + _ ≤ 16; omega)
      subst s1
      refine w_cal (pc' := 48) rfl (a_cv0 rfl rfl rfl (hTb3) rfl rfl) (e4) ?_
      have hTb4 : (gT z4 (100 + gZ z)).1 = 11 := by rw [s2.1]
      have f4 : fr (fun _ => False) z z4 := fr_old f3 s3.fr (fun b hb g => by unfold lv at hb; omega)
      have z3z : gZ z3 = gZ z2 := r3.2.2.2.1
      have s3z : gS z3 = gS z2 := r3.2.2.2.2.1
      have z4z : gZ z4 = gZ z3 := s3.2.2.2.1
      have s4z : gS z4 = gS z3 := s3.2.2.2.2.1
      obtain ⟨o, z5, e5, s, t1, t2, t3, t4, t5, t6⟩ := j_tos (d := d) s2 (show lv z4 (100 + gZ z + 1) by unfold lv; omega) (show lv z4 (100 + gZ z) by unfold lv; omega) (by rw [List.length_append]; show 6 + _ < 16; omega)
      subst t1
      refine w_cal (pc' := 51) rfl (a_cv0 rfl rfl rfl (hTb4) rfl rfl) (e5) ?_
      have f5 : fr (fun _ => False) z z5 := fr_trans f4 t4
      have hT05 : (gT z5 100).1 = 0 := by rw [f5.2.1 100 l100]; exact hT
      have ln : ([] ++ sReady ++ dig m.1).length ≤ 16 := by rw [List.length_append]; show 6 + _ ≤ 16; omega
      refine w_put rfl rfl hT05 (by decide) rfl rfl rfl ?_
      refine w_nx (pc' := 146) rfl ?_
      exact x_repE (d := d + 4) hw f5 t3 (.inr (by omega)) (by omega) (by omega)
    | some t =>
      obtain ⟨t60, i16, i17, j40, wn0⟩ := h60 t rfl
      refine w_icne rfl rfl rfl (fun _ => ?_) (fun g => absurd (nI_nm (by omega)) g)
      refine w_nx (pc' := 58) rfl ?_
      refine w_getI rfl rfl (hT) rfl rfl ?_
      refine w_top (i17) ?_
      cases st with
      | none =>
        obtain ⟨w, w1, w2, w3⟩ := wn0 rfl
        subst w1
        refine w_ifeq rfl rfl rfl (fun g => absurd g (by decide)) (fun _ => ?_)
        refine w_nx (pc' := 65) rfl ?_
        refine w_nx (pc' := 68) rfl ?_
        refine w_nx (pc' := 69) rfl ?_
        generalize aNew z 11 0 4 = z1 at sb0 fN zN sN ⊢
        obtain ⟨o, z2, e2, q1, q2, q3, q4, q5⟩ := j_sbi (d := d + 4) sb0.1 (Nat.le_add_right _ _) sb0.2.1 sb0.2.2
        subst q1
        refine w_cal (pc' := 72) rfl (rfl) (e2) ?_
        have f2 : fr (fun _ => False) z z2 := fr_old fN q3 (fun b hb g => by unfold lv at hb; omega)
        have lit2 := lits_fr lit f2 (fun _ _ _ g => g)
        have hTb2 : (gT z2 (100 + gZ z)).1 = 11 := by rw [q2.1]
        refine w_nx (pc' := 74) rfl ?_
        obtain ⟨o, z3, e3, r1, r2, r3⟩ := j_app (d := d + 1) q2 lit2.2.2.2.1 (by decide)
        subst r1
        refine w_cal (pc' := 77) rfl (a_cv0 rfl rfl rfl (hTb2) rfl rfl) (e3) ?_
        have hTb3 : (gT z3 (100 + gZ z)).1 = 11 := by rw [r2.1]
        have f3 : fr (fun _ => False) z z3 := fr_old f2 r3.fr (fun b hb g => by unfold lv at hb; omega)
        have lit3 := lits_fr lit f3 (fun _ _ _ g => g)
        have hT03 : (gT z3 100).1 = 0 := by rw [f3.2.1 100 l100]; exact hT
        have c15 : gI z3 100 15 = nI t := ((f3.2.2 100 l100 (fun g => g) 15).1).trans h15'
        refine w_nx (pc' := 78) rfl ?_
        refine w_getI rfl rfl (hT03) rfl rfl ?_
        refine w_top (c15) ?_
        have hd2 := dig_le t
        have hd3 := dig_le w
        obtain ⟨o, z4, e4, s1, s2, s3⟩ := j_appI (d := d + 3) (n := t) r2 lit3.2.2.2.2.2.2.2.2 (by omega) (by show 7 + _ ≤ 16; omega)
        subst s1
        refine w_cal (pc' := 84) rfl (a_cv0 rfl rfl rfl (hTb3) rfl rfl) (e4) ?_
        have hTb4 : (gT z4 (100 + gZ z)).1 = 11 := by rw [s2.1]
        have f4 : fr (fun _ => False) z z4 := fr_old f3 s3.fr (fun b hb g => by unfold lv at hb; omega)
        have lit4 := lits_fr lit f4 (fun _ _ _ g => g)
        have ln4 : ([] ++ sFail ++ dig t).length = 7 + (dig t).length := by rw [List.length_append]; rfl
        refine w_nx (pc' := 86) rfl ?_
        obtain ⟨o, z5, e5, t1, t2, t3⟩ := j_app (d := d + 1) s2 lit4.2.2.2.2.1 (by rw [ln4]; show 7 + _ + 4 ≤ 16; omega)
        subst t1
        refine w_cal (pc' := 89) rfl (a_cv0 rfl rfl rfl (hTb4) rfl rfl) (e5) ?_
        have hTb5 : (gT z5 (100 + gZ z)).1 = 11 := by rw [t2.1]
        have f5 : fr (fun _ => False) z z5 := fr_old f4 t3.fr (fun b hb g => by unfold lv at hb; omega)
        have lit5 := lits_fr lit f5 (fun _ _ _ g => g)
        have hT05 : (gT z5 100).1 = 0 := by rw [f5.2.1 100 l100]; exact hT
        have c18 : gI z5 100 18 = nI w := ((f5.2.2 100 l100 (fun g => g) 18).1).trans w3
        have ln5 : ([] ++ sFail ++ dig t ++ sBy').length = 11 + (dig t).length := by rw [List.length_append, ln4]; show 7 + _ + 4 = _; omega
        refine w_nx (pc' := 90) rfl ?_
        refine w_getI rfl rfl (hT05) rfl rfl ?_
        refine w_top (c18) ?_
        obtain ⟨o, z6, e6, u1, u2, u3⟩ := j_appI (d := d + 3) (n := w) t2 lit5.2.2.2.2.2.2.2.2 (by omega) (by rw [ln5]; omega)
        subst u1
        refine w_cal (pc' := 96) rfl (a_cv0 rfl rfl rfl (hTb5) rfl rfl) (e6) ?_
        have hTb6 : (gT z6 (100 + gZ z)).1 = 11 := by rw [u2.1]
        have f6 : fr (fun _ => False) z z6 := fr_old f5 u3.fr (fun b hb g => by unfold lv at hb; omega)
        have z3z : gZ z3 = gZ z2 := r3.2.2.2.1
        have s3z : gS z3 = gS z2 := r3.2.2.2.2.1
        have z4z : gZ z4 = gZ z3 := s3.2.2.2.1
        have s4z : gS z4 = gS z3 := s3.2.2.2.2.1
        have z5z : gZ z5 = gZ z4 := t3.2.2.2.1
        have s5z : gS z5 = gS z4 := t3.2.2.2.2.1
        have z6z : gZ z6 = gZ z5 := u3.2.2.2.1
        have s6z : gS z6 = gS z5 := u3.2.2.2.2.1
        have ln6 : ([] ++ sFail ++ dig t ++ sBy' ++ dig w).length = 11 + (dig t).length + (dig w).length := by rw [List.length_append, ln5]
        obtain ⟨o, z7, e7, s, v1, v2, v3, v4, v5, v6⟩ := j_tos (d := d) u2 (show lv z6 (100 + gZ z + 1) by unfold lv; omega) (show lv z6 (100 + gZ z) by unfold lv; omega) (by rw [ln6]; omega)
        subst v1
        refine w_cal (pc' := 99) rfl (a_cv0 rfl rfl rfl (hTb6) rfl rfl) (e7) ?_
        have f7 : fr (fun _ => False) z z7 := fr_trans f6 v4
        have hT07 : (gT z7 100).1 = 0 := by rw [f7.2.1 100 l100]; exact hT
        refine w_put rfl rfl hT07 (by decide) rfl rfl rfl ?_
        refine w_nx (pc' := 146) rfl ?_
        exact x_repE (d := d + 4) hw f7 v3 (.inr (by omega)) (by omega) (by omega)
      | some j =>
        have hj := j40 j rfl
        refine w_ifeq rfl rfl rfl (fun _ => ?_) (fun g => absurd rfl g)
        refine w_nx (pc' := 106) rfl ?_
        refine w_nx (pc' := 109) rfl ?_
        refine w_nx (pc' := 110) rfl ?_
        generalize aNew z 11 0 4 = z1 at sb0 fN zN sN ⊢
        obtain ⟨o, z2, e2, q1, q2, q3, q4, q5⟩ := j_sbi (d := d + 4) sb0.1 (Nat.le_add_right _ _) sb0.2.1 sb0.2.2
        subst q1
        refine w_cal (pc' := 113) rfl (rfl) (e2) ?_
        have f2 : fr (fun _ => False) z z2 := fr_old fN q3 (fun b hb g => by unfold lv at hb; omega)
        have lit2 := lits_fr lit f2 (fun _ _ _ g => g)
        have hTb2 : (gT z2 (100 + gZ z)).1 = 11 := by rw [q2.1]
        refine w_nx (pc' := 115) rfl ?_
        obtain ⟨o, z3, e3, r1, r2, r3⟩ := j_app (d := d + 1) q2 lit2.2.2.2.2.2.1 (by decide)
        subst r1
        refine w_cal (pc' := 118) rfl (a_cv0 rfl rfl rfl (hTb2) rfl rfl) (e3) ?_
        have hTb3 : (gT z3 (100 + gZ z)).1 = 11 := by rw [r2.1]
        have f3 : fr (fun _ => False) z z3 := fr_old f2 r3.fr (fun b hb g => by unfold lv at hb; omega)
        have lit3 := lits_fr lit f3 (fun _ _ _ g => g)
        have hT03 : (gT z3 100).1 = 0 := by rw [f3.2.1 100 l100]; exact hT
        have c15 : gI z3 100 15 = nI t := ((f3.2.2 100 l100 (fun g => g) 15).1).trans h15'
        refine w_nx (pc' := 119) rfl ?_
        refine w_getI rfl rfl (hT03) rfl rfl ?_
        refine w_top (c15) ?_
        have hd2 := dig_le t
        have hd3 := dig_le j
        obtain ⟨o, z4, e4, s1, s2, s3⟩ := j_appI (d := d + 3) (n := t) r2 lit3.2.2.2.2.2.2.2.2 (by omega) (by show 4 + _ ≤ 16; omega)
        subst s1
        refine w_cal (pc' := 125) rfl (a_cv0 rfl rfl rfl (hTb3) rfl rfl) (e4) ?_
        have hTb4 : (gT z4 (100 + gZ z)).1 = 11 := by rw [s2.1]
        have f4 : fr (fun _ => False) z z4 := fr_old f3 s3.fr (fun b hb g => by unfold lv at hb; omega)
        have lit4 := lits_fr lit f4 (fun _ _ _ g => g)
        have ln4 : ([] ++ sRun ++ dig t).length = 4 + (dig t).length := by rw [List.length_append]; rfl
        refine w_nx (pc' := 127) rfl ?_
        obtain ⟨o, z5, e5, t1, t2, t3⟩ := j_app (d := d + 1) s2 lit4.2.2.2.2.2.2.1 (by rw [ln4]; show 4 + _ + 4 ≤ 16; omega)
        subst t1
        refine w_cal (pc' := 130) rfl (a_cv0 rfl rfl rfl (hTb4) rfl rfl) (e5) ?_
        have hTb5 : (gT z5 (100 + gZ z)).1 = 11 := by rw [t2.1]
        have f5 : fr (fun _ => False) z z5 := fr_old f4 t3.fr (fun b hb g => by unfold lv at hb; omega)
        have lit5 := lits_fr lit f5 (fun _ _ _ g => g)
        have hT05 : (gT z5 100).1 = 0 := by rw [f5.2.1 100 l100]; exact hT
        have hmj := hm.2.2.2 j hj
        have lj := twS_lv hw (show 265 + 2 * j < 468 by omega)
        have hTj5 : (gT z5 (265 + 2 * j)).1 = 6 := by rw [f5.2.1 _ lj, hmj.2.1]
        have c16 : gR z5 100 16 = some (265 + 2 * j) := ((f5.2.2 100 l100 (fun g => g) 16).2.2).trans i16
        have cj : gI z5 (265 + 2 * j) 0 = nI j := ((f5.2.2 _ lj (fun g => g) 0).1).trans hmj.2.2.1
        have ln5 : ([] ++ sRun ++ dig t ++ sIn).length = 8 + (dig t).length := by rw [List.length_append, ln4]; show 4 + _ + 4 = _; omega
        refine w_nx (pc' := 131) rfl ?_
        refine w_getR rfl rfl (hT05) (congrArg va_rf (c16)) rfl ?_
        refine w_getI rfl rfl (hTj5) rfl rfl ?_
        refine w_top (cj) ?_
        obtain ⟨o, z6, e6, u1, u2, u3⟩ := j_appI (d := d + 3) (n := j) t2 lit5.2.2.2.2.2.2.2.2 (by omega) (by rw [ln5]; omega)
        subst u1
        refine w_cal (pc' := 140) rfl (a_cv0 rfl rfl rfl (hTb5) rfl rfl) (e6) ?_
        have hTb6 : (gT z6 (100 + gZ z)).1 = 11 := by rw [u2.1]
        have f6 : fr (fun _ => False) z z6 := fr_old f5 u3.fr (fun b hb g => by unfold lv at hb; omega)
        have z3z : gZ z3 = gZ z2 := r3.2.2.2.1
        have s3z : gS z3 = gS z2 := r3.2.2.2.2.1
        have z4z : gZ z4 = gZ z3 := s3.2.2.2.1
        have s4z : gS z4 = gS z3 := s3.2.2.2.2.1
        have z5z : gZ z5 = gZ z4 := t3.2.2.2.1
        have s5z : gS z5 = gS z4 := t3.2.2.2.2.1
        have z6z : gZ z6 = gZ z5 := u3.2.2.2.1
        have s6z : gS z6 = gS z5 := u3.2.2.2.2.1
        have ln6 : ([] ++ sRun ++ dig t ++ sIn ++ dig j).length = 8 + (dig t).length + (dig j).length := by rw [List.length_append, ln5]
        obtain ⟨o, z7, e7, s, v1, v2, v3, v4, v5, v6⟩ := j_tos (d := d) u2 (show lv z6 (100 + gZ z + 1) by unfold lv; omega) (show lv z6 (100 + gZ z) by unfold lv; omega) (by rw [ln6]; omega)
        subst v1
        refine w_cal (pc' := 143) rfl (a_cv0 rfl rfl rfl (hTb6) rfl rfl) (e7) ?_
        have f7 : fr (fun _ => False) z z7 := fr_trans f6 v4
        have hT07 : (gT z7 100).1 = 0 := by rw [f7.2.1 100 l100]; exact hT
        refine w_put rfl rfl hT07 (by decide) rfl rfl rfl ?_
        exact x_repE (d := d + 4) hw f7 v3 (.inr (by omega)) (by omega) (by omega)
theorem x_said {d s : Nat} {x : Int32} {z : aSt} {sd : List Nat} (hw : twS z) (hs : strR z s sd) (h19 : gR z 100 19 = some s) : aW (d + 3) 14 [.ref 100, .int x] z (fun o z' => z' = z ∧ ((∃ i, i < sd.length ∧ x = nI i ∧ o = .inl (some (.int (nI (sd.getD i 0))))) ∨ (¬ inR x sd.length ∧ o = .inl (some (.int (nI 0)))))) := by
  have hT : (gT z 100).1 = 0 := by rw [hw.1]
  have hTs : (gT z s).1 = 12 := by rw [hs.1]
  have hs0 := hs
  obtain ⟨_, _, _, v, t, _, _, _, _, h16, h128⟩ := hs
  refine w_of (k := 14) (m := aM_X1_said) rfl rfl ?_
  refine w_nx (pc' := 1) rfl ?_
  refine w_nx (pc' := 2) rfl ?_
  refine w_getR rfl rfl (hT) (congrArg va_rf (h19)) rfl ?_
  obtain ⟨o, z2, e2, q1, q2⟩ := j_slen (d := d) hs0
  subst q1
  rw [q2] at e2
  refine w_cal (pc' := 8) rfl (a_cv0 rfl rfl rfl (hTs) rfl rfl) (e2) ?_
  obtain ⟨o, z1, e1, q1, ⟨q2, q3⟩ | ⟨q2, q3⟩⟩ := x_within (d := d + 1) (n := sd.length) (x := x) (z := z) (by omega)
  · subst q3
    rw [q1] at e1
    refine w_cal (pc' := 11) rfl (rfl) (e1) ?_
    refine w_ifeq rfl rfl rfl (fun g => absurd g (by decide)) (fun _ => ?_)
    obtain ⟨i, i1, i2⟩ := q2
    subst i2
    refine w_nx (pc' := 15) rfl ?_
    refine w_getR rfl rfl (hT) (congrArg va_rf (h19)) rfl ?_
    refine w_nx (pc' := 19) rfl ?_
    obtain ⟨o, z2, e2, q1, q2⟩ := j_charAt (d := d) hs0 i1
    subst q1
    rw [q2] at e2
    refine w_cal (pc' := 22) rfl (a_cv0 rfl rfl rfl (hTs) rfl rfl) (e2) ?_
    refine w_nx (pc' := 26) rfl ?_
    have hf : aFin aM_X1_said 26 [.int (nI (sd.getD i 0))] z = some (.inl (some (.int (nI (sd.getD i 0))))) := by
      show (if vp_nar .char (nI (sd.getD i 0)) = nI (sd.getD i 0) then _ else none) = _
      rw [if_pos (nar_c (by have := (h128 i i1).2; omega))]
    exact w_fin hf ⟨rfl, .inl ⟨i, i1, rfl, rfl⟩⟩
  · subst q3
    rw [q1] at e1
    refine w_cal (pc' := 11) rfl (rfl) (e1) ?_
    refine w_ifeq rfl rfl rfl (fun _ => ?_) (fun g => absurd rfl g)
    refine w_nx (pc' := 26) (S' := .int (nI 0) :: _) rfl ?_
    exact w_fin rfl ⟨rfl, .inr ⟨q2, rfl⟩⟩
