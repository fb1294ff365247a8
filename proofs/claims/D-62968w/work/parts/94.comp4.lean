/-! TraceWarden.compile, whole -/
set_option maxRecDepth 100000
theorem pts_ok2 {z : aSt} {P : Nat → Prop} : ∀ (T : Tr) (p : Nat), rpP z P T p → ∀ b, b ∈ pts z T p → okQ z b := fun T p h b hb => pts_ok T p (rpP_P T p h) b hb
theorem x_compile {d : Nat} {tx : List Nat} {rs : List Nat} {e c : Nat} {ps : List Nat} {e1 c1 : Nat} {gs : List Nat} {e2 c2 : Nat} {z : aSt} (h : CI z tx rs e c ps e1 c1 gs e2 c2) : aW (d + 301) 16 [.ref 100] z (compQ tx rs e c ps e1 c1 gs e2 c2 z) := by
  have h0 := h
  obtain ⟨hs, hb, ⟨n0, hp⟩, ⟨a0, m0, hr⟩, ⟨gts, hg⟩, ⟨ar, ar1, ar2⟩, ⟨d1, d2, d3⟩, l1, l2⟩ := h
  have hT : (gT z 100).1 = 0 := by rw [hs.1.1]
  have hT1 := stW_T hr
  unfold compQ
  refine w_of (k := 16) (m := aM_X1_compile) rfl rfl ?_
  refine w_nx (pc' := 1) rfl ?_
  refine w_getR rfl rfl (hT) (congrArg va_rf (hs.1.2.2.1.1)) rfl ?_
  obtain ⟨o, z1, ex, q4⟩ := x_whole (d := d + 260) hr
  have h40 := hr.1.2.2.2.2.1
  cases hW : pW tx with
  | inl x =>
    rw [hW] at q4
    obtain ⟨z2, n', e1', c1', ps', y1, y2, y3, y4, y5⟩ := q4
    subst y1 y2
    obtain ⟨C2, cm2⟩ := CI_rd h0 y4 y3
    have tE : gT (aNew z2 13 0 6) (100 + gZ z2) = (13, 0) := if_pos rfl
    refine w_cat (hd := 11) (a_cv0 rfl rfl rfl (hT1) rfl rfl) ex (by rw [tE]; rfl) (by rw [tE]; rfl) ?_
    have fE : fr (fun b => b = 100) z2 (aNew z2 13 0 6) := fr_new
    have hs2 := C2.1
    have hTE : (gT (aNew z2 13 0 6) 100).1 = 0 := by rw [fE.2.1 100 (stat_lv hs2 (by decide)), hs2.1.1]
    have hTE1 : (gT (aNew z2 13 0 6) 101).1 = 1 := by rw [fE.2.1 101 (stat_lv hs2 (by decide))]; exact stR_T y3
    have rE : gR (aNew z2 13 0 6) 100 0 = some 101 := by rw [gR_new, if_neg (lv_ne (stat_lv hs2 (by decide)))]; exact hs2.1.2.2.1.1
    have aE : gI (aNew z2 13 0 6) 101 2 = nI x := by rw [gI_new, if_neg (lv_ne (stat_lv hs2 (by decide)))]; exact y3.1.2.2.2.2.2.2.2.1
    have sE : gS (aNew z2 13 0 6) = gS z2 + 6 := rfl
    have zE : gZ (aNew z2 13 0 6) = gZ z2 + 1 := rfl
    have iE : ∀ k, gI (aNew z2 13 0 6) 100 k = gI z2 100 k := fun k => by rw [gI_new, if_neg (lv_ne (stat_lv hs2 (by decide)))]
    have rrE : ∀ k, gR (aNew z2 13 0 6) 100 k = gR z2 100 k := fun k => by rw [gR_new, if_neg (lv_ne (stat_lv hs2 (by decide)))]
    generalize aNew z2 13 0 6 = zz at fE hTE hTE1 rE aE sE zE iE rrE ⊢
    refine w_nx (pc' := 12) rfl ?_
    refine w_nx (pc' := 13) rfl ?_
    refine w_nx (pc' := 14) rfl ?_
    refine w_getR rfl rfl (hTE) (congrArg va_rf (rE)) rfl ?_
    refine w_getI rfl rfl (hTE1) rfl rfl ?_
    refine w_top (aE) ?_
    refine w_put rfl rfl (hTE) (by omega) rfl rfl rfl ?_
    have fF : fr (fun b => b = 100) zz (aNew (sI zz 100 13 (nI x)) 13 0 6) := fr_trans (fr_sI fun _ => rfl) fr_new
    have l100 : (100 : Nat) ≠ 100 + gZ zz := by have := hs2.1.2.1; omega
    have i13 : gI (aNew (sI zz 100 13 (nI x)) 13 0 6) 100 13 = nI x := by
      rw [gI_new, if_neg (show 100 ≠ 100 + gZ (sI zz 100 13 (nI x)) from l100), gI_same]
    have ik : ∀ k, k ≠ 13 → gI (aNew (sI zz 100 13 (nI x)) 13 0 6) 100 k = gI zz 100 k := fun k hk => by
      rw [gI_new, if_neg (show 100 ≠ 100 + gZ (sI zz 100 13 (nI x)) from l100), gI_nk hk]
    have rk : ∀ k, gR (aNew (sI zz 100 13 (nI x)) 13 0 6) 100 k = gR zz 100 k := fun k => by
      rw [gR_new, if_neg (show 100 ≠ 100 + gZ (sI zz 100 13 (nI x)) from l100)]
      rfl
    have f2F := fr_trans fE fF
    have r2F : ∀ k, gR (aNew (sI zz 100 13 (nI x)) 13 0 6) 100 k = gR z2 100 k := fun k => (rk k).trans (rrE k)
    have k100 : ∀ k, gI z2 100 k = gI z 100 k := fun k => by
      have : ¬ rdF 0 ps e1 100 := rd_off hr.2.2.1 (by decide) (by decide) (arE_ne ar1 (by decide) (by decide)) (by rw [hs.1.1]; decide)
      exact (y4.2.1.2.2 100 (stat_lv hs (by decide)) this k).1
    have sF : gS (aNew (sI zz 100 13 (nI x)) 13 0 6) = gS zz + 6 := rfl
    have zF : gZ (aNew (sI zz 100 13 (nI x)) 13 0 6) = gZ zz + 1 := rfl
    refine w_thn rfl ⟨_, rfl, if_pos rfl, i13, fun k _ hk => ((ik k hk).trans (iE k)).trans (k100 k), cmR_trans cm2 (cm_100 f2F hs2 r2F), rs, e, c, ps', e1', c1', CI_100 C2 f2F (fun k _ _ => r2F k), ?_⟩
    unfold pot
    have p1 := y4.2.2.2.2.2.2.2.1
    have p2 := y4.2.2.2.2.2.2.2.2
    show gZ (aNew (sI zz 100 13 (nI x)) 13 0 6) + _ + _ ≤ _ ∧ gS (aNew (sI zz 100 13 (nI x)) 13 0 6) + _ + _ + _ + _ ≤ _
    omega
  | inr w =>
    obtain ⟨T, b⟩ := w
    rw [hW] at q4
    obtain ⟨w, n', e1', c1', ps', y1, y3, y4, y5, y6⟩ := q4
    subst y1
    obtain ⟨C1, cm1⟩ := CI_rd h0 y4 y3
    have hH := (szr_W h40 hW).1
    refine w_cal (pc' := 7) rfl (a_cv0 rfl rfl rfl (hT1) rfl rfl) (ex) ?_
    have hs1 := C1.1
    have hT2 : (gT z1 100).1 = 0 := by rw [hs1.1.1]
    have hD1 : (gT z1 104).1 = 3 := by rw [hs1.2.2.2.1.1]
    have k100 : ∀ k, gI z1 100 k = gI z 100 k := fun k => by
      have : ¬ rdF 0 ps e1 100 := rd_off hr.2.2.1 (by decide) (by decide) (arE_ne ar1 (by decide) (by decide)) (by rw [hs.1.1]; decide)
      exact (y4.2.1.2.2 100 (stat_lv hs (by decide)) this k).1
    have rep1 := rpP_P T w y6.1
    have pok := fun b hb => pts_ok T w rep1 b hb
    obtain ⟨n1, hp1⟩ := C1.2.2.1
    have p1 := y4.2.2.2.2.2.2.2.1
    have p2 := y4.2.2.2.2.2.2.2.2
    refine w_nx (pc' := 8) rfl ?_
    refine w_nx (pc' := 31) rfl ?_
    refine w_nx (pc' := 32) rfl ?_
    refine w_getR rfl rfl (hT2) (congrArg va_rf (hs1.1.2.2.1.2.1)) rfl ?_
    refine w_nx (pc' := 36) rfl ?_
    obtain ⟨o, z2, e2x, q2⟩ := (x_take rep1 y6.2 hs1.2.2.2.1 C1.2.1 ⟨hs1.2.2.2.2.1.1, hs1.2.2.2.2.1.2.1, hs1.2.2.2.2.1.2.2, hs1.2.2.2.2.2.1⟩ (by omega) hp1).le (show 2 * ht T + 9 ≤ d + 300 by omega)
    show wR _ _ (fun o z' => match cmp T with | none => _ | some m => _) _ _ _ _
    rcases q2 with ⟨h9, ho, z0, rs2, e2', c2', f0, gz0, gs0, r0, nc0, m0', dS0, dT0, aT0, p0, tk⟩ | ⟨h9, y, ho, ty, f0, gz, gsx⟩
    · subst ho
      obtain ⟨C0, cm0⟩ := CI_tk C1 f0 pok
      obtain ⟨t1, t2, t3, t4, t5⟩ := tk
      have hs0 := C0.1
      have lnR : rs2.length ≤ 640 := by omega
      have off0 : ∀ b, b < 468 → 100 ≤ b → b ≠ 104 → b ≠ 111 → ¬ rowsX b → ¬ (b = 104 ∨ plF 0 rs e b ∨ rowsX b) := fun b hb h0 h1 h2 h3 => by
        rintro (g | (g | g | ⟨i, g1, g2, g3⟩) | g)
        · exact h1 g
        · exact h2 g
        · exact arE_ne ar h0 hb g
        · have := (p0.2.2.2.2.2.2.2.2 _ (get_mem g2)).2.1
          rcases g3 with g3 | g3 <;> omega
        · exact h3 g
      have ra2 : rowsA z2 := by
        refine ⟨t4, ?_, fun i hi => ?_⟩
        · exact rowOk_fr2 hs0.2.2.2.2.2.2.1 t2.1 (.inl (off0 _ (by decide) (by decide) (by decide) (by decide) (by unfold rowsX; omega))) (stat_lv hs0 (by decide))
        · exact rowOk_fr2 (hs0.2.2.2.2.2.2.2 i hi) t2.1 (.inl (off0 _ (by omega) (by omega) (by omega) (by omega) (by unfold rowsX; omega))) (stat_lv hs0 (by omega))
      have k2 : ∀ k, gI z2 100 k = gI z0 100 k ∧ gR z2 100 k = gR z0 100 k := fun k => by
        have := t2.1.2.2 100 (stat_lv hs0 (by decide)) (off0 _ (by decide) (by decide) (by decide) (by decide) (by unfold rowsX; omega)) k
        exact ⟨this.1, this.2.2⟩
      obtain ⟨C2, cm2⟩ := CI_pR C0 t2 t1 lnR ra2 (fun b g => by unfold rowsX at g; unfold N1; omega) (fun k => (k2 k).2)
      have k0 : ∀ k, gI z0 100 k = gI z1 100 k := fun k => by
        have hn : ¬ ((104 ≤ 100 ∧ 100 ≤ 109) ∨ 100 ∈ pts z1 T w) := fun g => g.elim (by decide) fun g => by have := (pok _ g).2.2; omega
        have a1 := (f0.1.2.2 100 (stat_lv hs1 (by decide)) hn k).1
        exact a1.trans ((gI_ne (by decide)).trans (gI_ne (by decide)))
      have hs2 := C2.1
      have hT22 : (gT z2 100).1 = 0 := by rw [hs2.1.1]
      have okw : okQ z0 w := repP_ok r0
      have off0w : ¬ (w = 104 ∨ plF 0 rs e w ∨ rowsX w) := by
        have := okw.2.2
        rintro (g | (g | g | ⟨i, g1, g2, g3⟩) | g)
        · omega
        · omega
        · have a := p0.1.2.2.2.2.2.1
          rw [← g, okw.1] at a
          cases a
        · have ho := p0.2.2.2.2.2.2.2.2 _ (get_mem g2)
          rcases g3 with g3 | g3
          · have a := ho.1.1
            rw [← g3, okw.1] at a
            cases a
          · have a := ho.1.2.2.1
            rw [← g3, okw.1] at a
            cases a
        · unfold rowsX at g; omega
      have ow : gI z2 w 6 = nI 0 := ((t2.1.2.2 w okw.2.1 off0w 6).1).trans (own_due r0 nc0).1
      have hTw : (gT z2 w).1 = 10 := by rw [t2.1.2.1 w okw.2.1, okw.1]
      have hN : vI z0 104 0 = wid T true := vI_of m0' (by omega)
      have m2 : gI z2 104 0 = nI (wid T true) := (t2.2.1.2 0 (by decide)).trans m0'
      have dR : dutR z2 (wid T true) (obG T) := by
        refine ⟨hs2.2.2.2.1.1, m2, h9, hs2.2.2.2.2.1.1, hs2.2.2.2.2.1.2.1, hs2.2.2.2.2.1.2.2, fun v l hv hl => ?_⟩
        refine isRow_congr (t5 (8 * v + l) (by omega)) fun x => ?_
        have e1 : oblU z0 (ht T) (8 * v + l) x ↔ oblM z0 (ht T) v l x := by
          unfold oblU oblM
          rw [show (8 * v + l) / 8 = v by omega, show (8 * v + l) % 8 = l by omega]
          exact Iff.rfl
        rw [e1]
        exact obl_pure T w true 0 (ht T) l x v r0 nc0 (by omega) (by omega) (Nat.le_refl _) (Nat.zero_le _) (by omega)
      have cmA : cmR N1 (fun b => b = e2) z z2 := cmR_trans cm1 (cmR_trans cm0 cm2)
      refine w_cal (pc' := 39) rfl (a_cv0 rfl rfl rfl (hD1) rfl rfl) (e2x) ?_
      refine w_nx (pc' := 40) rfl ?_
      refine w_nx (pc' := 41) rfl ?_
      obtain ⟨o, z3, e3x, q3⟩ := (x_reach (d := d + 290) hs2.1 dR t1 ra2.2.1 ra2.2.2 hTw ow)
      have hc : cmp T = match bfs (eqC (wid T true) (obG T)) 321 [[]] [] with | none => none | some q => some (aft (wid T true) (obG T) q) := by
        unfold cmp
        rw [if_neg (by omega)]
        rfl
      rw [hc]
      -- reach's frame
      have rcq : ∀ (ws : List (List Nat)) (to rs3 : List Nat) (e3 c3 : Nat) (z3 : aSt), rcS (wid T true) (obG T) rs2 e2' c2' z2 ws to rs3 e3 c3 z3 → CI z3 tx rs3 e3 c3 ps' e1' c1' gs e2 c2 ∧ cmR N1 (fun b => b = e2) z z3 ∧ (∀ k, k ≠ 3 → gI z3 100 k = gI z 100 k) ∧ pot rs c ps c1 z rs3 c3 ps' c1' z3 0 0 ∧ gI z3 104 0 = nI (wid T true) := by
        intro ws to rs3 e3 c3 z3 S
        have dd := rc_dut hs2.1 dR t1 S
        have off2 : ∀ i, i < 72 → ¬ (112 + 2 * i = 104 ∨ plF 0 rs2 e2' (112 + 2 * i) ∨ rcX (112 + 2 * i)) := fun i hi => by
          rintro (g | (g | g | ⟨j, g1, g2, g3⟩) | g)
          · omega
          · omega
          · exact arE_ne C2.2.2.2.2.2.1.1 (by omega) (by omega) g
          · have := (t1.2.2.2.2.2.2.2.2 _ (get_mem g2)).2.1
            rcases g3 with g3 | g3 <;> omega
          · unfold rcX at g; omega
        obtain ⟨s1, s2, s3, s4, s5, s6, s7, s8, s9, s10, s11, s12, s13, s14⟩ := S
        have ra3 : rowsA z3 := ⟨fun i hi => rowOk_fr2 (ra2.1 i hi) s11.1 (.inl (off2 i hi)) (stat_lv hs2 (by omega)), s8, s9⟩
        obtain ⟨C3, cm3⟩ := CI_pR C2 s11 s10 (by omega) ra3 (fun b g => by unfold rcX at g; unfold N1; omega) s13
        refine ⟨C3, cmR_trans cmA cm3, fun k hk => (s14 k hk).trans ((k2 k).1.trans ((k0 k).trans (k100 k))), ?_, dd.2.1⟩
        unfold pot
        have u1 := t2.2.2.2.2.1
        have u2 := t2.2.2.2.2.2
        have u3 := s11.2.2.2.2.1
        have u4 := s11.2.2.2.2.2
        omega
      cases hbf : bfs (eqC (wid T true) (obG T)) 321 [[]] [] with
      | none =>
        rw [hbf] at q3
        obtain ⟨ws, to, rs3, e3, c3, z4, S, v1, v2⟩ := q3
        subst v1 v2
        obtain ⟨C4, cm4, k4, pp4, _⟩ := rcq ws to rs3 e3 c3 z4 S
        refine w_thr (a_cv0 rfl rfl rfl (hT22) rfl rfl) (e3x) rfl ?_
        have hs4 := C4.1
        have fN : fr (fun b => b = 100) z4 (aNew z4 14 0 6) := fr_new
        have l100 : (100 : Nat) ≠ 100 + gZ z4 := by have := hs4.1.2.1; omega
        have rk : ∀ k, gR (aNew z4 14 0 6) 100 k = gR z4 100 k := fun k => by rw [gR_new, if_neg l100]
        have ik : ∀ k, gI (aNew z4 14 0 6) 100 k = gI z4 100 k := fun k => by rw [gI_new, if_neg l100]
        refine ⟨_, rfl, if_pos rfl, fun k hk => (ik k).trans (k4 k hk), cmR_trans cm4 (cm_100 fN hs4 rk), rs3, e3, c3, ps', e1', c1', CI_100 C4 fN (fun k _ _ => rk k), ?_⟩
        unfold pot at pp4 ⊢
        show gZ z4 + 1 + _ + _ ≤ _ ∧ gS z4 + 6 + _ + _ + _ + _ ≤ _
        omega
      | some q =>
        rw [hbf] at q3
        obtain ⟨v1, v2, rs3, e3, c3, S⟩ := q3
        subst v1
        obtain ⟨C4, cm4, k4, pp4, m4⟩ := rcq q.1 q.2 rs3 e3 c3 z3 S
        refine w_cal (pc' := 44) rfl (a_cv0 rfl rfl rfl (hT22) rfl rfl) (e3x) ?_
        have t4 : rcT T q z3 := by
          obtain ⟨s1, s2, s3, s4, s5, s6, s7, s8, s9, s10, s11, s12, s13, s14⟩ := S
          exact ⟨s1, s2, s3, v2, s5, fun i hi => ⟨s6 i (by omega), getD_memO s7 (by omega)⟩, m4⟩
        exact x_compB (d := d + 298) h9 C4 cm4 k4 pp4 t4
    · subst ho
      obtain ⟨C0, cm0⟩ := CI_tk C1 f0 pok
      refine w_thr (a_cv0 rfl rfl rfl (hD1) rfl rfl) (e2x) rfl ?_
      have hc : cmp T = none := by
        unfold cmp
        rw [if_pos h9]
      rw [hc]
      have k0 : ∀ k, gI z2 100 k = gI z1 100 k := fun k => by
        have hn : ¬ ((104 ≤ 100 ∧ 100 ≤ 109) ∨ 100 ∈ pts z1 T w) := fun g => g.elim (by decide) fun g => by have := (pok _ g).2.2; omega
        have a1 := (f0.1.2.2 100 (stat_lv hs1 (by decide)) hn k).1
        exact a1.trans ((gI_ne (by decide)).trans (gI_ne (by decide)))
      refine ⟨y, rfl, ty, fun k _ => (k0 k).trans (k100 k), cmR_trans cm1 cm0, rs, e, c, ps', e1', c1', C0, ?_⟩
      unfold pot
      omega
