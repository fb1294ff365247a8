/-! TraceWarden.reach, a step; the whole -/
set_option maxRecDepth 100000
theorem gd_appW {l : List (List Nat)} {w : List Nat} {i : Nat} : (l ++ [w]).getD i [] = if i < l.length then l.getD i [] else if i = l.length then w else [] := by
  rw [List.getD_eq_getElem?_getD, List.getD_eq_getElem?_getD, List.getElem?_append]
  split
  · rfl
  · by_cases c : i = l.length
    · rw [if_pos c, c, Nat.sub_self]; rfl
    · rw [if_neg c, List.getElem?_eq_none (by show 1 ≤ _; omega)]; rfl
theorem gd_app1 {l : List Nat} {x i : Nat} : (l ++ [x]).getD i 0 = if i < l.length then l.getD i 0 else if i = l.length then x else 0 := by
  rw [List.getD_eq_getElem?_getD, List.getD_eq_getElem?_getD, List.getElem?_append]
  split
  · rfl
  · by_cases c : i = l.length
    · rw [if_pos c, c, Nat.sub_self]; rfl
    · rw [if_neg c, List.getElem?_eq_none (by show 1 ≤ _; omega)]; rfl
/-- conditions' rows and the scratch row are apart from the pool -/
theorem pR_rcX {n : Nat} {z z1 : aSt} {rs rs1 : List Nat} {e c e1 c1 r : Nat} (h : pR n (rF r) z rs e c z1 rs1 e1 c1) (hr : ∀ b, rF r b → rcX b) : pR n rcX z rs e c z1 rs1 e1 c1 := pR_mono h (Nat.le_refl n) fun b g => .inl (hr b g)
/-- a step: from condition k by letter x -/
theorem x_reach1 {d many p : Nat} {G : Nat → Nat → Nat → Prop} {rs : List Nat} {e c : Nat} {z : aSt} (hw : twS z) (hd : dutR z many G) (hp : pl z 0 rs e c) : ∀ (f k x : Nat) (ws : List (List Nat)) (to : List Nat) (rs1 : List Nat) (e1 c1 : Nat) (z1 : aSt) (v4 : Option Value), f + to.length = 321 → 8 * k + x = to.length → x < 8 → k < ws.length → rcS many G rs e c z ws to rs1 e1 c1 z1 →
    wR (aEx (d + 9)) aM_X1_reach (reachQ many G rs e c z (bfs (eqC many G) f ws to)) 32 [some (.ref 100), some (.ref p), some (.int (nI k)), some (.int (nI x)), v4] [] z1
  | 0, k, x, ws, to, rs1, e1, c1, z1, v4, hf, hkx, hx, hk, s => by
    have := s.2.2.1
    omega
  | f + 1, k, x, ws, to, rs1, e1, c1, z1, v4, hf, hkx, hx, hk, s => by
    have w1 := rc_tw hw hp s
    have d1 := rc_dut hw hd hp s
    have s0 := s
    obtain ⟨s1, s2, s3, s4, s5, s6, s7, s8, s9, s10, s11, s12, s13, s14⟩ := s
    have hT1 : (gT z1 100).1 = 0 := by rw [w1.1]
    have hD1 : (gT z1 104).1 = 3 := by rw [d1.1]
    have hrk := s5 k hk
    have hTk : (gT z1 (351 + 2 * k)).1 = 4 := by rw [(isRow_ok hrk).1]
    have hdiv : to.length / 8 = k := by omega
    have hmod : to.length % 8 = x := by omega
    unfold bfs
    rw [if_pos (by omega), hdiv, hmod]
    refine w_nx (pc' := 33) rfl ?_
    refine w_nx (pc' := 35) (S' := .int (nI 8) :: _) rfl ?_
    refine w_ncge rfl rfl rfl (rfl) (rfl) (by omega) (by omega) (fun hb => ?_) (fun hb => ?_)
    · omega
    · refine w_nx (pc' := 39) rfl ?_
      refine w_getR rfl rfl (hT1) (congrArg va_rf (w1.2.2.1.2.1)) rfl ?_
      refine w_nx (pc' := 43) rfl ?_
      refine w_getR rfl rfl (hT1) (congrArg va_rf (w1.2.2.1.2.2.1)) rfl ?_
      refine w_nx (pc' := 47) rfl ?_
      refine w_ald rfl (fun _ _ _ _ _ _ => rfl) (w1.2.2.2.1.1) rfl (rfl) (by omega) (by decide) (congrArg va_rf (w1.2.2.2.2 k (by omega))) rfl ?_
      refine w_nx (pc' := 49) rfl ?_
      refine w_nx (pc' := 50) rfl ?_
      refine w_getR rfl rfl (hT1) (congrArg va_rf (w1.2.2.1.2.2.2.2.2.2.2.1)) rfl ?_
      obtain ⟨o, z2, e2, q1, rs2, e2', c2, q2, q3, q4, q5⟩ := x_pass (d := d) (many := many) (G := fun v => G v x) d1.1 d1.2.1 d1.2.2.1 d1.2.2.2.1 d1.2.2.2.2.1 d1.2.2.2.2.2.1 s10 (by decide) w1.2.1 hx hrk (by omega) s8 (by decide) (by omega) (fun v hv => ⟨d1.2.2.2.2.2.2 v x hv hx, by omega⟩)
      subst q1
      refine w_cal (pc' := 56) rfl (a_cv0 rfl rfl rfl (hD1) rfl rfl) (e2) ?_
      have q3x := pR_rcX q3 (fun b g => by unfold rcX; rcases g with g | g <;> omega)
      have f2 := q3.1
      have lvz : ∀ b, b < 468 → lv z1 b := fun b hb => twS_lv w1 hb
      have noff : ∀ b, b < 468 → gT z1 b ≠ (49, c1) → b ≠ 104 → b ≠ 111 → ¬ rF 261 b → ¬ (b = 104 ∨ plF 0 rs1 e1 b ∨ rF 261 b) := by
        intro b hb hne h104 h111 h261
        rintro (g | (g | g | ⟨i, g1, g2, g3⟩) | g)
        · exact h104 g
        · exact h111 g
        · rw [g] at hne; exact hne s10.1.2.2.2.2.2.1
        · have := (s10.2.2.2.2.2.2.2.2 _ (get_mem g2)).2.1
          rcases g3 with g3 | g3 <;> omega
        · exact h261 g
      have n100 := noff 100 (by decide) (by rw [w1.1]; intro h; cases h) (by decide) (by decide) (by unfold rF; omega)
      have n257 := noff 257 (by decide) (by rw [w1.2.2.2.1.2.1]; intro h; cases h) (by decide) (by decide) (by unfold rF; omega)
      have i100 : ∀ k, gI z2 100 k = gI z1 100 k := fun k => (f2.2.2 100 (lvz _ (by decide)) n100 k).1
      have r100 : ∀ k, gR z2 100 k = gR z1 100 k := fun k => (f2.2.2 100 (lvz _ (by decide)) n100 k).2.2
      have i257 : ∀ k, gI z2 257 k = gI z1 257 k := fun k => (f2.2.2 257 (lvz _ (by decide)) n257 k).1
      have hro : ∀ i, i < 40 → rowOk z2 (351 + 2 * i) := fun i hi => by
        refine rowOk_fr2 (s9 i hi) f2 (.inl ?_) (lvz _ (by omega))
        exact noff _ (by omega) (by rw [(s9 i hi).1]; intro h; cases h) (by omega) (by omega) (by unfold rF; omega)
      have hrow : ∀ i, i < ws.length → isRow z2 (351 + 2 * i) (cw many G (ws.getD i [])) := fun i hi => pR_keep s10 q3 (s5 i hi) (lvz _ (by omega)) (fun b hb => by unfold rF at hb ⊢; omega) (pl_off s10 (by omega))
      have S2 : rcS many G rs e c z ws to rs2 e2' c2 z2 := ⟨(i100 3).trans s1, s2, s3, s4, hrow, fun i hi => (i257 i).trans (s6 i hi), s7, isRow_ok q5, hro, q2, pR_trans s11 q3x, by omega, fun k => (r100 k).trans (s13 k), fun k hk => (i100 k).trans (s14 k hk)⟩
      have w2 := rc_tw hw hp S2
      have hT2 : (gT z2 100).1 = 0 := by rw [w2.1]
      have q5' : isRow z2 261 (cw many G (x :: ws.getD k [])) := q5
      refine w_nx (pc' := 57) (S' := .int (nI 0) :: _) rfl ?_
      refine w_nx (pc' := 59) rfl ?_
      refine x_reachJ (d := d + 8) (w := x :: ws.getD k []) w2 ((i100 3).trans s1) s3 hrow q5' ?_ ws.length 0 (Nat.add_zero _) (fun i hi h => absurd h (by omega))
      have hfl := fi_le (p := fun u => eqC many G u (x :: ws.getD k [])) ws
      generalize fi (fun u => eqC many G u (x :: ws.getD k [])) ws = j at hfl ⊢
      -- the end of a step
      have tail : ∀ (ws' : List (List Nat)) (z3 : aSt), j < ws'.length → ws.length ≤ ws'.length → rcS many G rs e c z ws' to rs2 e2' c2 z3 → wR (aEx (d + 9)) aM_X1_reach (reachQ many G rs e c z (bfs (eqC many G) f ws' (to ++ [j]))) 139 [some (.ref 100), some (.ref p), some (.int (nI k)), some (.int (nI x)), some (.int (nI j))] [] z3 := by
        intro ws' z3 hj hws S3
        have w3 := rc_tw hw hp S3
        have hT3 : (gT z3 100).1 = 0 := by rw [w3.1]
        obtain ⟨a1, a2, a3, a4, a5, a6, a7, a8, a9, a10, a11, a12, a13, a14⟩ := S3
        refine w_nx (pc' := 140) rfl ?_
        refine w_getR rfl rfl (hT3) (congrArg va_rf (w3.2.2.1.2.2.2.1)) rfl ?_
        refine w_nx (pc' := 145) (S' := .int (nI 8) :: _) rfl ?_
        refine w_nx (pc' := 146) rfl ?_
        refine w_nx (pc' := 147) rfl ?_
        refine w_top (pk_mul _ _) ?_
        refine w_nx (pc' := 148) rfl ?_
        refine w_nx (pc' := 149) rfl ?_
        refine w_top (nI_add _ _) ?_
        refine w_nx (pc' := 151) rfl ?_
        refine w_ast (f := fun x => x) rfl (fun _ _ _ _ _ _ => rfl) (w3.2.2.2.1.2.1) (by decide) (rfl) (show 8 * k + x < 320 by omega) (by decide) rfl ?_
        rw [hkx]
        have hlen : (to ++ [j]).length = to.length + 1 := List.length_append
        have e257 : e2' ≠ 257 := fun g => by have := a10.1.2.2.2.2.2.1; rw [g, w3.2.2.2.1.2.1] at this; cases this
        have fz : frI (fun b => b = 257) z3 (sI z3 257 to.length (nI j)) := frI_sI rfl
        have S4 : rcS many G rs e c z ws' (to ++ [j]) rs2 e2' c2 (sI z3 257 to.length (nI j)) := by
          refine ⟨(gI_ne (by decide)).trans a1, a2, a3, by omega, fun i hi => ?_, fun i hi => ?_, fun y hy => ?_, a8, a9, ?_, ?_, a12, a13, fun k hk => (gI_ne (by decide)).trans (a14 k hk)⟩
          · exact isRow_fr2 (a5 i hi) fz.fr (by omega) (by omega) (twS_lv w3 (by omega))
          · rw [hlen] at hi
            rw [gd_app1]
            by_cases c : i < to.length
            · rw [if_pos c, gI_nk (by omega)]
              exact a6 i c
            · have : i = to.length := by omega
              rw [if_neg c, if_pos this, this, gI_same]
          · rcases List.mem_append.mp hy with g | g
            · exact a7 y g
            · rw [List.mem_singleton.mp g]; exact hj
          · obtain ⟨p1, p2, p3, p4, p5, p6, p7, p8, p9⟩ := a10
            exact ⟨isAL_fr p1 fz.fr (by decide) e257, p2, p3, p4, (gI_ne (by decide)).trans p5, p6, p7, p8, p9⟩
          · refine pR_trans a11 ⟨fr_mono fz.fr (fun b _ g => .inr (.inr (.inr (.inl g)))), ⟨fun _ => rfl, fun k _ => gI_ne (by decide)⟩, ⟨[], (List.append_nil _).symm, fun r hr => (by cases hr)⟩, .inl rfl, Nat.le_refl _, Nat.le_refl _⟩
        generalize sI z3 257 to.length (nI j) = z4 at S4 ⊢
        have w4 := rc_tw hw hp S4
        have hT4 : (gT z4 100).1 = 0 := by rw [w4.1]
        have s44 := S4.2.2.2.1
        refine w_iinc rfl rfl (nI_1 _) rfl rfl ?_
        refine w_nx (pc' := 32) rfl ?_
        by_cases cx : x + 1 < 8
        · exact x_reach1 hw hd hp f k (x + 1) ws' (to ++ [j]) rs2 e2' c2 z4 _ (by omega) (by omega) cx (by omega) S4
        · refine w_nx (pc' := 33) rfl ?_
          refine w_nx (pc' := 35) (S' := .int (nI 8) :: _) rfl ?_
          refine w_ncge rfl rfl rfl (rfl) (rfl) (by omega) (by omega) (fun hb2 => ?_) (fun hb2 => ?_)
          · refine w_iinc rfl rfl (nI_1 _) rfl rfl ?_
            refine w_nx (pc' := 22) rfl ?_
            refine w_nx (pc' := 23) rfl ?_
            refine w_nx (pc' := 24) rfl ?_
            refine w_getI rfl rfl (hT4) rfl rfl ?_
            refine w_top (S4.1) ?_
            refine w_ncge rfl rfl rfl (rfl) (rfl) (by omega) (by omega) (fun hb3 => ?_) (fun hb3 => ?_)
            · -- all done
              match f with
              | 0 => omega
              | f + 1 =>
                unfold bfs
                rw [if_neg (by omega)]
                exact w_fin rfl ⟨rfl, (by show (to ++ [j]).length = 8 * ws'.length; omega), rs2, e2', c2, S4⟩
            · refine w_nx (pc' := 31) (S' := .int (nI 0) :: _) rfl ?_
              refine w_nx (pc' := 32) rfl ?_
              exact x_reach1 hw hd hp f (k + 1) 0 ws' (to ++ [j]) rs2 e2' c2 z4 _ (by omega) (by omega) (by decide) hb3 S4
          · omega
      have c3 : gI z2 100 3 = nI ws.length := (i100 3).trans s1
      refine w_nx (pc' := 93) rfl ?_
      refine w_nx (pc' := 95) (S' := .int (nI 40) :: _) rfl ?_
      by_cases hjl : j < ws.length
      · rw [if_pos hjl]
        refine w_ncne rfl rfl rfl (rfl) (rfl) (by omega) (by omega) (fun hb2 => ?_) (fun hb2 => ?_)
        · refine w_nx (pc' := 108) rfl ?_
          refine w_nx (pc' := 109) rfl ?_
          refine w_getI rfl rfl (hT2) rfl rfl ?_
          refine w_top (c3) ?_
          refine w_ncne rfl rfl rfl (rfl) (rfl) (by omega) (by omega) (fun hb3 => ?_) (fun hb3 => ?_)
          · exact tail ws z2 hjl (Nat.le_refl _) S2
          · omega
        · omega
      · rw [if_neg hjl]
        have hj : j = ws.length := by omega
        refine w_ncne rfl rfl rfl (rfl) (rfl) (by omega) (by omega) (fun hb2 => ?_) (fun hb2 => ?_)
        · rw [if_neg (by omega)]
          refine w_nx (pc' := 108) rfl ?_
          refine w_nx (pc' := 109) rfl ?_
          refine w_getI rfl rfl (hT2) rfl rfl ?_
          refine w_top (c3) ?_
          refine w_ncne rfl rfl rfl (rfl) (rfl) (by omega) (by omega) (fun hb3 => ?_) (fun hb3 => ?_)
          · omega
          · have hj40 : j < 40 := by omega
            have hTj : (gT z2 (351 + 2 * j)).1 = 4 := by rw [(hro j hj40).1]
            refine w_nx (pc' := 116) rfl ?_
            refine w_getR rfl rfl (hT2) (congrArg va_rf (w2.2.2.1.2.2.1)) rfl ?_
            refine w_nx (pc' := 121) rfl ?_
            refine w_ald rfl (fun _ _ _ _ _ _ => rfl) (w2.2.2.2.1.1) rfl (rfl) (by omega) (by decide) (congrArg va_rf (w2.2.2.2.2 j hj40)) rfl ?_
            refine w_nx (pc' := 123) rfl ?_
            refine w_getR rfl rfl (hT2) (congrArg va_rf (w2.2.2.1.2.2.2.2.2.2.2.1)) rfl ?_
            obtain ⟨o, z3, e3, y1, y2, y3⟩ := x_copy (d := d + 8) (hro j hj40) q5' (by omega)
            subst y1
            refine w_cal (pc' := 129) rfl (a_cv0 rfl rfl rfl (hTj) rfl rfl) (e3) ?_
            have lv2 : ∀ b, b < 468 → lv z2 b := fun b hb => twS_lv w2 hb
            have fy := y2.fr
            have n100' : ¬ rF (351 + 2 * j) 100 := by unfold rF; omega
            have c33 : gI z3 100 3 = nI ws.length := ((fy.2.2 100 (lv2 _ (by decide)) n100' 3).1).trans c3
            have hT3 : (gT z3 100).1 = 0 := by rw [fy.2.1 100 (lv2 _ (by decide))]; exact hT2
            refine w_nx (pc' := 130) rfl ?_
            refine w_nx (pc' := 131) rfl ?_
            refine w_getI rfl rfl (hT3) rfl rfl ?_
            refine w_top (c33) ?_
            refine w_nx (pc' := 135) (S' := .int (nI 1) :: _) rfl ?_
            refine w_nx (pc' := 136) rfl ?_
            refine w_top (nI_add _ _) ?_
            refine w_put rfl rfl (hT3) (by omega) rfl rfl rfl ?_
            rw [show to ++ [ws.length] = to ++ [j] by rw [hj]]
            have hlen : (ws ++ [x :: ws.getD k []]).length = ws.length + 1 := List.length_append
            refine tail (ws ++ [x :: ws.getD k []]) _ (by omega) (by omega) ?_
            obtain ⟨a1, a2, a3, a4, a5, a6, a7, a8, a9, a10, a11, a12, a13, a14⟩ := S2
            have p3 := pl_row a10 y2 (hro j hj40)
            have g100 : ∀ b k v, b ≠ 100 → gI (sI z3 100 3 v) b k = gI z3 b k := fun b k v h => gI_ne h
            have fs : fr (fun b => b = 100) z3 (sI z3 100 3 (nI (ws.length + 1))) := fr_sI fun _ => rfl
            have lv3 : ∀ b, b < 468 → lv z3 b := fun b hb => lv_fr fy (lv2 b hb)
            have e100 : e2' ≠ 100 := fun g => by have := a10.1.2.2.2.2.2.1; rw [g, w2.1] at this; cases this
            refine ⟨by rw [hlen]; exact gI_same .., by omega, by omega, by omega, fun i hi => ?_, fun i hi => ?_, fun y hy => ?_, ?_, fun i hi => ?_, ?_, ?_, a12, fun k => ?_, fun k hk => ?_⟩
            · rw [gd_appW]
              by_cases ci : i < ws.length
              · rw [if_pos ci]
                exact isRow_fr2 (isRow_fr2 (a5 i ci) fy (by unfold rF; omega) (by unfold rF; omega) (lv2 _ (by omega))) fs (by omega) (by omega) (lv3 _ (by omega))
              · have : i = ws.length := by omega
                rw [if_neg ci, if_pos this, show 351 + 2 * i = 351 + 2 * j by omega]
                exact isRow_fr2 y3 fs (show ¬ 351 + 2 * j = 100 by omega) (show ¬ 351 + 2 * j + 1 = 100 by omega) (lv3 _ (by omega))
            · exact (g100 257 i _ (by decide)).trans (((fy.2.2 257 (lv2 _ (by decide)) (by unfold rF; omega) i).1).trans (a6 i hi))
            · have := a7 y hy; omega
            · exact rowOk_fr2 (rowOk_fr2 a8 fy (.inl (by unfold rF; omega)) (lv2 _ (by decide))) fs (.inl (by decide)) (lv3 _ (by decide))
            · have ho := a9 i hi
              have ho3 : rowOk z3 (351 + 2 * i) := by
                by_cases cj : i = j
                · rw [cj]; exact isRow_ok y3
                · exact rowOk_fr2 ho fy (.inl (by unfold rF; omega)) (lv2 _ (by omega))
              exact rowOk_fr2 ho3 fs (.inl (by omega)) (lv3 _ (by omega))
            · obtain ⟨p1, p2, p3, p4, p5, p6, p7, p8, p9⟩ := p3
              exact ⟨isAL_fr p1 fs (by decide) e100, p2, p3, p4, (g100 104 8 _ (by decide)).trans p5, p6, p7, p8, p9⟩
            · have r1 : pR 0 (rF (351 + 2 * j)) z2 rs2 e2' c2 z3 rs2 e2' c2 := pR_row y2 (.inr fun b hb => hb) (by unfold rF; omega)
              refine pR_trans (pR_trans a11 (pR_rcX r1 fun b g => by unfold rcX; rcases g with g | g <;> omega)) ⟨fr_mono fs (fun b _ g => .inr (.inr (.inl g))), ⟨fun _ => rfl, fun k _ => gI_ne (by decide)⟩, ⟨[], (List.append_nil _).symm, fun r hr => (by cases hr)⟩, .inl rfl, Nat.le_refl _, Nat.le_refl _⟩
            · exact ((fy.2.2 100 (lv2 _ (by decide)) n100' k).2.2).trans (a13 k)
            · exact (gI_nk hk).trans (((fy.2.2 100 (lv2 _ (by decide)) n100' k).1).trans (a14 k hk))
        · rw [if_pos (by omega)]
          exact w_thn rfl ⟨ws, to, rs2, e2', c2, z2, S2, rfl, rfl⟩
theorem x_reach {d many p : Nat} {G : Nat → Nat → Nat → Prop} {rs : List Nat} {e c : Nat} {z : aSt} (hw : twS z) (hd : dutR z many G) (hp : pl z 0 rs e c) (h261 : rowOk z 261) (hrow : ∀ i, i < 40 → rowOk z (351 + 2 * i)) (hpT : (gT z p).1 = 10) (hp6 : gI z p 6 = nI 0) : aW (d + 10) 17 [.ref 100, .ref p] z (reachQ many G rs e c z (bfs (eqC many G) 321 [[]] [])) := by
  have hT : (gT z 100).1 = 0 := by rw [hw.1]
  have h0 := hrow 0 (by decide)
  have hT0 : (gT z 351).1 = 4 := by rw [h0.1]
  refine w_of (k := 17) (m := aM_X1_reach) rfl rfl ?_
  refine w_nx (pc' := 1) rfl ?_
  refine w_getR rfl rfl (hT) (congrArg va_rf (hw.2.2.1.2.2.1)) rfl ?_
  refine w_nx (pc' := 5) (S' := .int (nI 0) :: _) rfl ?_
  refine w_ald rfl (fun _ _ _ _ _ _ => rfl) (hw.2.2.2.1.1) rfl (rfl) (by omega) (by decide) (congrArg va_rf (hw.2.2.2.2 0 (by decide))) rfl ?_
  refine w_nx (pc' := 7) (S' := .int (nI 1) :: _) rfl ?_
  refine w_nx (pc' := 8) rfl ?_
  refine w_getI rfl rfl (hpT) rfl rfl ?_
  refine w_top (hp6) ?_
  refine w_nx (pc' := 12) rfl ?_
  refine w_top (nI_shl (by decide) (by decide)) ?_
  obtain ⟨o, z1, e1, q1, q2, q3⟩ := x_one (d := d + 8) (s := 1 * 2 ^ 0) h0 (by decide)
  subst q1
  refine w_cal (pc' := 15) rfl (a_cv0 rfl rfl rfl (hT0) rfl rfl) (e1) ?_
  have f1 := q2.fr
  have lvz : ∀ b, b < 468 → lv z b := fun b hb => twS_lv hw hb
  have n100 : ¬ rF 351 100 := by unfold rF; omega
  have hT1 : (gT z1 100).1 = 0 := by rw [f1.2.1 100 (lvz _ (by decide))]; exact hT
  refine w_nx (pc' := 16) rfl ?_
  refine w_nx (pc' := 17) (S' := .int (nI 1) :: _) rfl ?_
  refine w_put rfl rfl (hT1) (by omega) rfl rfl rfl ?_
  refine w_nx (pc' := 21) (S' := .int (nI 0) :: _) rfl ?_
  refine w_nx (pc' := 22) rfl ?_
  have lv1 : ∀ b, b < 468 → lv z1 b := fun b hb => lv_fr f1 (lvz b hb)
  have fs : fr (fun b => b = 100) z1 (sI z1 100 3 (nI 1)) := fr_sI fun _ => rfl
  have e100 : e ≠ 100 := fun g => by have := hp.1.2.2.2.2.2.1; rw [g, hw.1] at this; cases this
  have S1 : rcS many G rs e c z [[]] [] rs e c (sI z1 100 3 (nI 1)) := by
    have p3 := pl_row hp q2 h0
    refine ⟨gI_same .., Nat.le_refl _, by decide, by decide, fun i hi => ?_, fun i hi => absurd hi (by show ¬ i < 0; omega), (fun y hy => by cases hy), ?_, fun i hi => ?_, ?_, ?_, Nat.le_max_left .., fun k => ?_, fun k hk => ?_⟩
    · have : i = 0 := by have : i < 1 := hi; omega
      subst this
      exact isRow_fr2 q3 fs (by decide) (by decide) (lv1 _ (by decide))
    · exact rowOk_fr2 (rowOk_fr2 h261 f1 (.inl (by unfold rF; omega)) (lvz _ (by decide))) fs (.inl (by decide)) (lv1 _ (by decide))
    · have ho := hrow i hi
      have ho3 : rowOk z1 (351 + 2 * i) := by
        by_cases cj : i = 0
        · subst cj; exact isRow_ok q3
        · exact rowOk_fr2 ho f1 (.inl (by unfold rF; omega)) (lvz _ (by omega))
      exact rowOk_fr2 ho3 fs (.inl (by omega)) (lv1 _ (by omega))
    · obtain ⟨p1, p2, p3, p4, p5, p6, p7, p8, p9⟩ := p3
      exact ⟨isAL_fr p1 fs (by decide) e100, p2, p3, p4, (gI_ne (by decide)).trans p5, p6, p7, p8, p9⟩
    · have r1 : pR 0 (rF 351) z rs e c z1 rs e c := pR_row q2 (.inr fun b hb => hb) (by unfold rF; omega)
      refine pR_trans (pR_rcX r1 fun b g => by unfold rcX; rcases g with g | g <;> omega) ⟨fr_mono fs (fun b _ g => .inr (.inr (.inl g))), ⟨fun _ => rfl, fun k _ => gI_ne (by decide)⟩, ⟨[], (List.append_nil _).symm, fun r hr => (by cases hr)⟩, .inl rfl, Nat.le_refl _, Nat.le_refl _⟩
    · exact (f1.2.2 100 (lvz _ (by decide)) n100 k).2.2
    · exact (gI_nk hk).trans (f1.2.2 100 (lvz _ (by decide)) n100 k).1
  generalize sI z1 100 3 (nI 1) = z2 at S1 ⊢
  have w2 := rc_tw hw hp S1
  have hT2 : (gT z2 100).1 = 0 := by rw [w2.1]
  refine w_nx (pc' := 23) rfl ?_
  refine w_nx (pc' := 24) rfl ?_
  refine w_getI rfl rfl (hT2) rfl rfl ?_
  refine w_top (S1.1) ?_
  refine w_ncge rfl rfl rfl (rfl) (rfl) (by decide) (by decide) (fun hb => ?_) (fun hb => ?_)
  · exact absurd hb (by decide)
  · refine w_nx (pc' := 31) (S' := .int (nI 0) :: _) rfl ?_
    refine w_nx (pc' := 32) rfl ?_
    exact x_reach1 hw hd hp 321 0 0 [[]] [] rs e c z2 _ rfl rfl (by decide) (by decide) S1
