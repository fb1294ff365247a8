/-! Reader.term: what comes behind a unit; groups -/
set_option maxRecDepth 100000
theorem stR_ok {z : aSt} {tx : List Nat} {a n e c j : Nat} {ps : List Nat} (h : stR z tx a n ps e c) (hj : j < n) : okQ z (ps.getD j 0) := h.2.2.1.2.2.2.2.2.2.2.2 _ (get_mem (Nat.lt_of_lt_of_le hj h.2.2.1.2.2.2.2.2.1))
theorem okQ_T {z : aSt} {p : Nat} (h : okQ z p) : (gT z p).1 = 10 := by rw [h.1]
theorem okQ_g {z : aSt} {p : Nat} (h : okQ z p) : 100 ≤ p := Nat.le_trans (by decide) h.2.2
theorem stR_T {z : aSt} {tx : List Nat} {a n e c : Nat} {ps : List Nat} (h : stR z tx a n ps e c) : (gT z 101).1 = 1 := by rw [h.1.1]
theorem stR_40 {z : aSt} {tx : List Nat} {a n e c : Nat} {ps : List Nat} (h : stR z tx a n ps e c) : a ≤ 40 := Nat.le_trans h.2.1 h.1.2.2.2.2.1
theorem rR_gd {n n' : Nat} {z z' : aSt} {ps ps' : List Nat} {e c e' c' j : Nat} (h : rR n z ps e c z' n' ps' e' c') (hj : j < ps.length) : ps'.getD j 0 = ps.getD j 0 := by
  obtain ⟨t, ht, _⟩ := h.2.2.2.2.1
  rw [ht, gd_left hj]
/-- a tree read before stays, among more Parts -/
theorem rpS_on {n n1 n2 m : Nat} {z1 z2 : aSt} {ps1 ps2 tx : List Nat} {e1 c1 e2 c2 a : Nat} {U : Tr} {u : Nat} (rr : rR n1 z1 ps1 e1 c1 z2 n2 ps2 e2 c2) (st : stR z1 tx a m ps1 e1 c1) (h : rpS z1 (ix ps1 n n1) U u) : rpS z2 (ix ps2 n n2) U u := rpS_sh (rR_sh rr st.2.2.1) (fun _ hb => ix_le (rR_ix rr hb) (Nat.le_refl _) rr.1) U u h
theorem rpP_on {n n1 n2 m : Nat} {z1 z2 : aSt} {ps1 ps2 tx : List Nat} {e1 c1 e2 c2 a : Nat} {U : Tr} {u : Nat} (rr : rR n1 z1 ps1 e1 c1 z2 n2 ps2 e2 c2) (st : stR z1 tx a m ps1 e1 c1) (h : rpP z1 (ix ps1 n n1) U u) : rpP z2 (ix ps2 n n2) U u ∧ pts z2 U u = pts z1 U u := rpP_sh (rR_sh rr st.2.2.1) (fun _ hb => ix_le (rR_ix rr hb) (Nat.le_refl _) rr.1) U u h
theorem x_termX {d dep a n e c b n1 e1 c1 u : Nat} {tx ps ps1 : List Nat} {z z1 : aSt} {U : Tr} {v3 : Option Value} (st : stR z1 tx b n1 ps1 e1 c1) (r : rR n z ps e c z1 n1 ps1 e1 c1) (hn : n ≤ a) (hm : n1 + a ≤ n + b) (hU : rpS z1 (ix ps1 n n1) U u) : wR (aEx (d + 12)) aM_X2_term (prQ rpS tx a n ps e c (pX tx U b) z) 84 [some (.ref 101), some (.int (nI dep)), some (.ref u), v3] [] z1 := by
  have hT1 := stR_T st
  have h40 := stR_40 st
  have hn1 := r.1
  unfold pX
  refine w_nx (pc' := 85) rfl ?_
  refine w_nx (pc' := 87) (S' := .int (nI 43) :: _) rfl ?_
  obtain ⟨o, z2, e2, ⟨q1, q2, q3⟩ | ⟨q1, q2, q3⟩⟩ := x_takes (d := d + 10) (ch := 43) st.1 (by decide)
  · subst q2
    rw [q3] at e2
    refine w_cal (pc' := 90) rfl (a_cv0 rfl rfl rfl (hT1) rfl rfl) (e2) ?_
    refine w_ifeq rfl rfl rfl (fun g => absurd g (by decide)) (fun _ => ?_)
    rw [if_pos q1]
    have st2 := stR_at st (tx_le q1 (by decide))
    refine w_nx (pc' := 94) rfl ?_
    obtain ⟨o, z3, e3, ps3, e3', c3, st3, s2, r3⟩ := x_freshR (d := d + 5) st2 (by omega)
    subst s2
    refine w_cal (pc' := 97) rfl (a_cv0 rfl rfl rfl (stR_T st2) rfl rfl) (e3) ?_
    have ho := stR_ok st3 (Nat.lt_succ_self n1)
    refine w_nx (pc' := 100) rfl ?_
    refine w_nx (pc' := 101) rfl ?_
    refine w_nx (pc' := 102) rfl ?_
    obtain ⟨o, z4, e4, k1, k2⟩ := x_be1 (d := d + 11) (k := 12) (x := u) (y := 0) (okQ_T ho) (okQ_g ho)
    subst k1
    rw [k2] at e4
    refine w_cal (pc' := 105) rfl (a_cv0 rfl rfl rfl (okQ_T ho) rfl rfl) (e4) ?_
    have rr := rR_trans rR_at r3
    obtain ⟨w1, w2, w3, w4⟩ := wr_fin (j := n1) st3 rr (Nat.le_refl _) (Nat.lt_succ_self _) (wr1_be (k := 12) (l := some u) (r := none))
    refine w_fin rfl ⟨_, n1 + 1, _, _, ps3, rfl, w1, rR_trans r w2, by omega, .inr (.inr (.inr (.inr (.inl ⟨rfl, ⟨w3.1, ix_le w3.2 hn1 (Nat.le_refl _)⟩, be_R.1, ⟨u, be_R.2.1, rpS_on w2 st hU⟩⟩))))⟩
  · subst q2
    rw [q3] at e2
    refine w_cal (pc' := 90) rfl (a_cv0 rfl rfl rfl (hT1) rfl rfl) (e2) ?_
    refine w_ifeq rfl rfl rfl (fun _ => ?_) (fun g => absurd rfl g)
    rw [if_neg q1]
    refine w_nx (pc' := 107) rfl ?_
    refine w_nx (pc' := 109) (S' := .int (nI 42) :: _) rfl ?_
    obtain ⟨o, z2, e2, ⟨b1, b2, b3⟩ | ⟨b1, b2, b3⟩⟩ := x_takes (d := d + 10) (ch := 42) st.1 (by decide)
    · subst b2
      rw [b3] at e2
      refine w_cal (pc' := 112) rfl (a_cv0 rfl rfl rfl (hT1) rfl rfl) (e2) ?_
      refine w_ifne rfl rfl rfl (fun _ => ?_) (fun g => absurd (show ¬ nI 1 = 0 by decide) g)
      rw [if_pos b1]
      have hb1 := tx_le b1 (by decide)
      have st2 := stR_at st hb1
      refine w_nx (pc' := 118) rfl ?_
      obtain ⟨o, z3, e3, ps3, e3', c3, st3, s2, r3⟩ := x_freshR (d := d + 5) st2 (by omega)
      subst s2
      refine w_cal (pc' := 121) rfl (a_cv0 rfl rfl rfl (stR_T st2) rfl rfl) (e3) ?_
      have ho := stR_ok st3 (Nat.lt_succ_self n1)
      refine w_nx (pc' := 124) rfl ?_
      refine w_nx (pc' := 125) rfl ?_
      refine w_nx (pc' := 126) rfl ?_
      obtain ⟨o, z4, e4, k1, k2⟩ := x_be1 (d := d + 11) (k := 11) (x := u) (y := 0) (okQ_T ho) (okQ_g ho)
      subst k1
      rw [k2] at e4
      refine w_cal (pc' := 129) rfl (a_cv0 rfl rfl rfl (okQ_T ho) rfl rfl) (e4) ?_
      have rr := rR_trans (rR_at (n := n1) (z := z1) (e := e1) (c := c1) (ps := ps1) (v := nI (b + 1))) r3
      have wb := wr1_be (z := z3) (p := ps3.getD n1 0) (k := 11) (l := some u) (r := none)
      obtain ⟨w1, w2, w3, w4⟩ := wr_fin (j := n1) st3 rr (Nat.le_refl _) (Nat.lt_succ_self _) wb
      have hbR := be_R (z := z3) (p := ps3.getD n1 0) (k := 11) (l := some u) (r := none)
      have hp9 : 468 ≤ ps3.getD n1 0 := ho.2.2
      generalize ps3.getD n1 0 = p at ho hp9 w3 hbR wb w1 w2 ⊢
      generalize hz4 : beP z3 p 11 (some u) none = zb at w1 w2 w3 hbR wb ⊢
      refine w_nx (pc' := 130) rfl ?_
      refine w_nx (pc' := 131) rfl ?_
      refine w_nx (pc' := 132) rfl ?_
      refine w_nx (pc' := 134) (S' := .int (nI 49) :: _) rfl ?_
      obtain ⟨o, z5, e5, ⟨d1, d2, d3⟩ | ⟨d1, d2, d3⟩⟩ := x_digit (d := d + 10) (v := 49) w1.1 (by decide) (by decide)
      · subst d2
        rw [d3] at e5
        refine w_cal (pc' := 137) rfl (a_cv0 rfl rfl rfl (stR_T w1) rfl rfl) (e5) ?_
        rw [if_pos d1]
        have hb2 : b + 1 + 1 ≤ tx.length := tx_le rfl (by omega)
        have st5 := stR_at w1 hb2
        have r5 : rR n1 z1 ps1 e1 c1 (sI zb 101 2 (nI (b + 1 + 1))) (n1 + 1) ps3 e3' c3 := rR_trans w2 rR_at
        have ho5 : okQ (sI zb 101 2 (nI (b + 1 + 1))) p := w3.1
        have hT5 := okQ_T ho5
        generalize hc : tx.getD (b + 1) 0 - 48 = cc
        refine w_put rfl rfl (hT5) (by omega) rfl rfl rfl ?_
        refine w_nx (pc' := 141) rfl ?_
        refine w_nx (pc' := 142) rfl ?_
        refine w_nx (pc' := 144) (S' := .int (nI 45) :: _) rfl ?_
        obtain ⟨i, g1, g2, g3, g4⟩ := w3.2
        have hi : i = n1 := by omega
        subst hi
        have wl : wr1 (ps3.getD i 0) (sI zb 101 2 (nI (b + 1 + 1))) (sI (sI zb 101 2 (nI (b + 1 + 1))) p 4 (nI cc)) := by
          rw [g4]
          exact wr1_sI ⟨fr_refl _, rfl, rfl⟩
        obtain ⟨v1, v2, v3', v4⟩ := wr_fin (j := i) st5 r5 (Nat.le_refl _) (Nat.lt_succ_self _) wl
        have g4p : gI (sI (sI zb 101 2 (nI (b + 1 + 1))) p 4 (nI cc)) p 4 = nI cc := gI_same ..
        have g0 : gR (sI (sI zb 101 2 (nI (b + 1 + 1))) p 4 (nI cc)) p 0 = some 11 := hbR.1
        have g1' : gR (sI (sI zb 101 2 (nI (b + 1 + 1))) p 4 (nI cc)) p 1 = some u := hbR.2.1
        rw [g4] at v3'
        have hne : p ≠ 101 := by omega
        generalize sI (sI zb 101 2 (nI (b + 1 + 1))) p 4 (nI cc) = z6 at v1 v2 v3' g4p g0 g1' ⊢
        have hcc : tx.getD (b + 1) 0 = 48 + cc := by omega
        have fin : ∀ (z7 : aSt) (m x : Nat), stR z7 tx x (i + 1) ps3 e3' c3 → rR i z1 ps1 e1 c1 z7 (i + 1) ps3 e3' c3 → okQ z7 p → gI z7 p 4 = nI cc → gR z7 p 0 = some 11 → gR z7 p 1 = some u → cc ≤ m → m ≤ 9 → i + 1 + a ≤ n + x → sucQ rpS tx a n ps e c z (.inner 11 cc m U .leaf) x (.inl (some (.ref p))) (sI z7 p 5 (nI m)) := by
          intro z7 m x a1 a2 a3 a4 a5 a6 a7 a8 a9
          have wl : wr1 (ps3.getD i 0) z7 (sI z7 p 5 (nI m)) := by
            rw [g4]
            exact wr1_sI ⟨fr_refl _, rfl, rfl⟩
          obtain ⟨y1, y2, y3, y4⟩ := wr_fin (j := i) a1 a2 (Nat.le_refl _) (Nat.lt_succ_self _) wl
          rw [g4] at y3
          exact ⟨p, i + 1, _, _, ps3, rfl, y1, rR_trans r y2, a9, .inr (.inr (.inr (.inl ⟨rfl, ⟨y3.1, ix_le y3.2 hn1 (Nat.le_refl _)⟩, a5, ⟨u, a6, rpS_on y2 st hU⟩, (gI_nk (by decide)).trans a4, gI_same .., by omega, a7, a8⟩)))⟩
        obtain ⟨o, z7, e7, ⟨f1, f2, f3⟩ | ⟨f1, f2, f3⟩⟩ := x_takes (d := d + 10) (ch := 45) v1.1 (by decide)
        · subst f2
          rw [f3] at e7
          refine w_cal (pc' := 147) rfl (a_cv0 rfl rfl rfl (stR_T v1) rfl rfl) (e7) ?_
          rw [if_pos f1]
          refine w_ifeq rfl rfl rfl (fun g => absurd g (by decide)) (fun _ => ?_)
          have st7 := stR_at v1 (tx_le f1 (by decide))
          have g4q : gI (sI z6 101 2 (nI (b + 1 + 1 + 1))) p 4 = nI cc := (gI_ne hne).trans g4p
          have hT7 : (gT (sI z6 101 2 (nI (b + 1 + 1 + 1))) p).1 = 10 := okQ_T v3'.1
          refine w_nx (pc' := 151) rfl ?_
          refine w_nx (pc' := 153) (S' := .int (nI 48) :: _) rfl ?_
          refine w_nx (pc' := 154) rfl ?_
          refine w_getI rfl rfl (hT7) rfl rfl ?_
          refine w_top (g4q) ?_
          refine w_nx (pc' := 158) rfl ?_
          refine w_top (nI_add _ _) ?_
          refine w_nx (pc' := 159) (S' := .int (vp_nar .char (nI (48 + cc))) :: _) rfl ?_
          refine w_top (nar_c (by omega)) ?_
          obtain ⟨o, z8, e8, ⟨k1, k2, k3⟩ | ⟨k1, k2, k3⟩⟩ := x_digit (d := d + 10) (v := 48 + cc) st7.1 (by omega) (by omega)
          · subst k2
            rw [k3] at e8
            refine w_cal (pc' := 162) rfl (a_cv0 rfl rfl rfl (stR_T st7) rfl rfl) (e8) ?_
            have st8 := stR_at st7 (tx_le (rfl : tx.getD (b + 1 + 1 + 1) 0 = _) (by omega))
            have hT8 : (gT (sI (sI z6 101 2 (nI (b + 1 + 1 + 1))) 101 2 (nI (b + 1 + 1 + 1 + 1))) p).1 = 10 := hT7
            refine w_nx (pc' := 169) rfl ?_
            refine w_put rfl rfl (hT8) (by omega) rfl rfl rfl ?_
            refine w_nx (pc' := 173) rfl ?_
            rw [if_pos (by rw [hcc]; exact k1)]
            exact w_fin rfl (fin _ (tx.getD (b + 1 + 1 + 1) 0 - 48) (b + 4) st8 (rR_trans v2 (rR_trans rR_at rR_at)) v3'.1 ((gI_ne hne).trans g4q) g0 g1' (by omega) (by omega) (by omega))
          · subst k2
            rw [k3] at e8
            refine w_thr (a_cv0 rfl rfl rfl (stR_T st7) rfl rfl) (e8) rfl ?_
            rw [if_neg (by rw [hcc]; exact k1)]
            exact errQ_now (rR_trans r (rR_trans v2 rR_at)) st7 (by omega)
        · subst f2
          rw [f3] at e7
          refine w_cal (pc' := 147) rfl (a_cv0 rfl rfl rfl (stR_T v1) rfl rfl) (e7) ?_
          rw [if_neg f1]
          refine w_ifeq rfl rfl rfl (fun _ => ?_) (fun g => absurd rfl g)
          have hT6 := okQ_T v3'.1
          refine w_nx (pc' := 166) rfl ?_
          refine w_getI rfl rfl (hT6) rfl rfl ?_
          refine w_top (g4p) ?_
          refine w_put rfl rfl (hT6) (by omega) rfl rfl rfl ?_
          refine w_nx (pc' := 173) rfl ?_
          exact w_fin rfl (fin _ cc (b + 2) v1 v2 v3'.1 g4p g0 g1' (by omega) (by omega) (by omega))
      · subst d2
        rw [d3] at e5
        refine w_thr (a_cv0 rfl rfl rfl (stR_T w1) rfl rfl) (e5) rfl ?_
        rw [if_neg d1]
        exact errQ_now (rR_trans r w2) w1 (by omega)
    · subst b2
      rw [b3] at e2
      refine w_cal (pc' := 112) rfl (a_cv0 rfl rfl rfl (hT1) rfl rfl) (e2) ?_
      refine w_ifne rfl rfl rfl (fun g => absurd rfl g) (fun _ => ?_)
      rw [if_neg b1]
      refine w_nx (pc' := 116) rfl ?_
      exact w_fin rfl ⟨u, n1, e1, c1, ps1, rfl, st, r, hm, .inr (.inr (.inr (.inr (.inr ⟨.inr rfl, hU⟩))))⟩
