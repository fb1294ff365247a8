/-! Reader.term, Reader.sequence -/
set_option maxRecDepth 100000
theorem x_termG {d dep f a n e c : Nat} {tx ps : List Nat} {z : aSt} (ihS : ∀ (a n : Nat) (ps : List Nat) (e c : Nat) (z : aSt), stR z tx a n ps e c → n ≤ a → aW (d + 12) 37 [.ref 101, .int (nI (dep + 1))] z (prQ rpS tx a n ps e c (pS tx f a) z)) (hn : n ≤ a) : ∀ (k b n1 e1 c1 u : Nat) (ps1 : List Nat) (z1 : aSt) (U : Tr) (v3 : Option Value), tx.length < k + b → stR z1 tx b n1 ps1 e1 c1 → rR n z ps e c z1 n1 ps1 e1 c1 → n1 + a ≤ n + b → rpS z1 (ix ps1 n n1) U u → wR (aEx (d + 12)) aM_X2_term (prQ rpS tx a n ps e c (bindP (pG tx (pS tx f) k U b) fun u c => pX tx u c) z) 17 [some (.ref 101), some (.int (nI dep)), some (.ref u), v3] [] z1
  | 0, b, n1, e1, c1, u, ps1, z1, U, v3, hk, st, r, hm, hU => absurd st.2.1 (by omega)
  | k + 1, b, n1, e1, c1, u, ps1, z1, U, v3, hk, st, r, hm, hU => by
    have hT1 := stR_T st
    have h40 := stR_40 st
    have hn1 := r.1
    unfold pG
    refine w_nx (pc' := 18) rfl ?_
    refine w_nx (pc' := 20) (S' := .int (nI 47) :: _) rfl ?_
    obtain ⟨o, z2, e2, ⟨q1, q2, q3⟩ | ⟨q1, q2, q3⟩⟩ := x_takes (d := d + 10) (ch := 47) st.1 (by decide)
    · subst q2
      rw [q3] at e2
      refine w_cal (pc' := 23) rfl (a_cv0 rfl rfl rfl (hT1) rfl rfl) (e2) ?_
      refine w_ifeq rfl rfl rfl (fun g => absurd g (by decide)) (fun _ => ?_)
      rw [if_pos q1]
      have hb1 := tx_le q1 (by decide)
      have st2 := stR_at st hb1
      refine w_nx (pc' := 27) rfl ?_
      obtain ⟨o, z3, e3, ps3, e3', c3, st3, s2, r3⟩ := x_freshR (d := d + 5) st2 (by omega)
      subst s2
      refine w_cal (pc' := 30) rfl (a_cv0 rfl rfl rfl (stR_T st2) rfl rfl) (e3) ?_
      have rr := rR_trans (rR_at (n := n1) (z := z1) (e := e1) (c := c1) (ps := ps1) (v := nI (b + 1))) r3
      have hj : n1 < ps3.length := Nat.lt_of_lt_of_le (Nat.lt_succ_self n1) st3.2.2.1.2.2.2.2.2.1
      refine w_nx (pc' := 33) rfl ?_
      refine w_nx (pc' := 34) rfl ?_
      refine w_nx (pc' := 35) rfl ?_
      refine w_nx (pc' := 36) rfl ?_
      refine w_nx (pc' := 37) (S' := .int (nI 1) :: _) rfl ?_
      refine w_nx (pc' := 38) rfl ?_
      refine w_top (nI_add _ _) ?_
      obtain ⟨o, z4, e4, q4⟩ := ihS (b + 1) (n1 + 1) ps3 e3' c3 z3 st3 (by omega)
      have hrg := rng_S tx f (b + 1) hb1
      cases hS : pS tx f (b + 1) with
      | inl x =>
        rw [hS] at q4
        have q5 := errQ_pre (rR_trans r rr) q4
        obtain ⟨z9, n9, e9, c9, ps9, y1, y2, y3, y4, y5⟩ := q4
        subst y2
        refine w_thr (rfl) (e4) rfl ?_
        exact q5
      | inr w =>
        obtain ⟨T, b2⟩ := w
        rw [hS] at q4 hrg
        obtain ⟨s4, n4, e4', c4, ps4, y1, st4, r4, hm4, hR⟩ := q4
        subst y1
        have hrg1 : b + 1 + 1 ≤ b2 := hrg.1
        refine w_cal (pc' := 41) rfl (rfl) (e4) ?_
        have hge : ps4.getD n1 0 = ps3.getD n1 0 := rR_gd r4 hj
        have hn4 := r4.1
        rw [← hge]
        have ho := stR_ok st4 (j := n1) (by omega)
        obtain ⟨o, z5, e5, k1, k2⟩ := x_be2 (d := d + 11) (k := 10) (x := u) (y := s4) (okQ_T ho) (okQ_g ho)
        subst k1
        rw [k2] at e5
        refine w_cal (pc' := 44) rfl (a_cv0 rfl rfl rfl (okQ_T ho) rfl rfl) (e5) ?_
        obtain ⟨w1, w2, w3, w4⟩ := wr_fin (j := n1) st4 (rR_trans rr r4) (Nat.le_refl _) (by omega) (wr1_be (k := 10) (l := some u) (r := some s4))
        have hbR := be_R (z := z4) (p := ps4.getD n1 0) (k := 10) (l := some u) (r := some s4)
        refine w_nx (pc' := 45) rfl ?_
        refine w_nx (pc' := 17) rfl ?_
        exact x_termG ihS hn k b2 n4 e4' c4 _ ps4 _ (.inner 10 0 0 U T) v3 (by omega) w1 (rR_trans r w2) (by omega) (.inr (.inr (.inl ⟨rfl, ⟨w3.1, ix_le w3.2 hn1 (Nat.le_refl _)⟩, hbR.1, ⟨u, hbR.2.1, rpS_on w2 st hU⟩, ⟨s4, hbR.2.2, rpS_sh (w4 (n1 + 1) n4 (.inr (Nat.lt_succ_self _))) (fun _ hb => ix_le hb (by omega) (Nat.le_refl _)) T s4 hR⟩⟩)))
    · subst q2
      rw [q3] at e2
      refine w_cal (pc' := 23) rfl (a_cv0 rfl rfl rfl (hT1) rfl rfl) (e2) ?_
      refine w_ifeq rfl rfl rfl (fun _ => ?_) (fun g => absurd rfl g)
      rw [if_neg q1]
      refine w_nx (pc' := 49) rfl ?_
      refine w_nx (pc' := 51) (S' := .int (nI 93) :: _) rfl ?_
      obtain ⟨o, z2, e2, ⟨b1, b2, b3⟩ | ⟨b1, b2, b3⟩⟩ := x_rtake (d := d + 9) (ch := 93) st.1 (by decide)
      · subst b2
        rw [b3] at e2
        refine w_cal (pc' := 54) rfl (a_cv0 rfl rfl rfl (hT1) rfl rfl) (e2) ?_
        rw [if_pos b1]
        refine w_nx (pc' := 84) rfl ?_
        exact x_termX (U := .inner 13 0 0 U .leaf) (stR_at st (tx_le b1 (by decide))) (rR_trans r rR_at) hn (by omega) (.inr (.inr (.inr (.inr (.inr ⟨.inl rfl, rpS_on (rR_at (n := n1)) st hU⟩)))))
      · subst b2
        rw [b3] at e2
        refine w_thr (a_cv0 rfl rfl rfl (hT1) rfl rfl) (e2) rfl ?_
        rw [if_neg b1]
        exact errQ_now r st (by omega)
theorem x_term {d dep f : Nat} {tx : List Nat} (ihS : ∀ (a n : Nat) (ps : List Nat) (e c : Nat) (z : aSt), stR z tx a n ps e c → n ≤ a → aW (d + 12) 37 [.ref 101, .int (nI (dep + 1))] z (prQ rpS tx a n ps e c (pS tx f a) z)) (hB : ∀ (a : Nat) (z : aSt), rdr z tx a → aW (d + 12) 41 [.ref 101, .int (nI (dep + 1)), .int (nI 0)] z (boolQ tx f a z)) (a n : Nat) (ps : List Nat) (e c : Nat) (z : aSt) (st : stR z tx a n ps e c) (hn : n ≤ a) : aW (d + 13) 38 [.ref 101, .int (nI dep)] z (prQ rpS tx a n ps e c (pT tx (pS tx f) (pB tx f) a) z) := by
  have hT1 := stR_T st
  have h40 := stR_40 st
  unfold pT
  refine w_of (k := 38) (m := aM_X2_term) rfl rfl ?_
  refine w_nx (pc' := 1) rfl ?_
  refine w_nx (pc' := 3) (S' := .int (nI 91) :: _) rfl ?_
  obtain ⟨o, z2, e2, ⟨q1, q2, q3⟩ | ⟨q1, q2, q3⟩⟩ := x_takes (d := d + 10) (ch := 91) st.1 (by decide)
  · subst q2
    rw [q3] at e2
    refine w_cal (pc' := 6) rfl (a_cv0 rfl rfl rfl (hT1) rfl rfl) (e2) ?_
    refine w_ifeq rfl rfl rfl (fun g => absurd g (by decide)) (fun _ => ?_)
    rw [if_pos q1]
    have hb1 := tx_le q1 (by decide)
    have st2 := stR_at st hb1
    refine w_nx (pc' := 10) rfl ?_
    refine w_nx (pc' := 11) rfl ?_
    refine w_nx (pc' := 12) (S' := .int (nI 1) :: _) rfl ?_
    refine w_nx (pc' := 13) rfl ?_
    refine w_top (nI_add _ _) ?_
    obtain ⟨o, z4, e4, q4⟩ := ihS (a + 1) n ps e c _ st2 (by omega)
    have hrg := rng_S tx f (a + 1) hb1
    cases hS : pS tx f (a + 1) with
    | inl x =>
      rw [hS] at q4
      have q5 := errQ_pre (rR_at (n := n) (z := z) (e := e) (c := c) (ps := ps) (v := nI (a + 1))) q4
      obtain ⟨z9, n9, e9, c9, ps9, y1, y2, y3, y4, y5⟩ := q4
      subst y2
      refine w_thr (rfl) (e4) rfl ?_
      exact q5
    | inr w =>
      obtain ⟨T, b2⟩ := w
      rw [hS] at q4 hrg
      obtain ⟨s4, n4, e4', c4, ps4, y1, st4, r4, hm4, hR⟩ := q4
      subst y1
      have hrg1 : a + 1 + 1 ≤ b2 := hrg.1
      have h41 := st.1.2.2.2.2.1
      refine w_cal (pc' := 16) rfl (rfl) (e4) ?_
      refine w_nx (pc' := 17) rfl ?_
      exact x_termG ihS hn 41 b2 n4 e4' c4 s4 ps4 _ T _ (by omega) st4 (rR_trans rR_at r4) (by omega) hR
  · subst q2
    rw [q3] at e2
    refine w_cal (pc' := 6) rfl (a_cv0 rfl rfl rfl (hT1) rfl rfl) (e2) ?_
    refine w_ifeq rfl rfl rfl (fun _ => ?_) (fun g => absurd rfl g)
    rw [if_neg q1]
    refine w_nx (pc' := 58) rfl ?_
    refine w_nx (pc' := 59) rfl ?_
    refine w_nx (pc' := 60) (S' := .int (nI 1) :: _) rfl ?_
    refine w_nx (pc' := 61) rfl ?_
    refine w_top (nI_add _ _) ?_
    refine w_nx (pc' := 62) (S' := .int (nI 0) :: _) rfl ?_
    have hrg := rng_B tx f a st.2.1
    obtain ⟨o, z2, e2, ⟨t, b, b1, b2, b3, b4⟩ | ⟨x, b1, b2, b3⟩⟩ := hB a z st.1
    · subst b3
      rw [b4] at e2
      rw [b1] at hrg
      have hrg1 : a + 1 ≤ b := hrg.1
      refine w_cal (pc' := 65) rfl (rfl) (e2) ?_
      have st2 := stR_at st hrg.2
      rw [b1]
      refine w_nx (pc' := 66) rfl ?_
      refine w_nx (pc' := 67) rfl ?_
      obtain ⟨o, z3, e3, ps3, e3', c3, st3, s2, r3⟩ := x_freshR (d := d + 5) st2 (by omega)
      subst s2
      refine w_cal (pc' := 70) rfl (a_cv0 rfl rfl rfl (stR_T st2) rfl rfl) (e3) ?_
      have ho := stR_ok st3 (Nat.lt_succ_self n)
      refine w_nx (pc' := 73) rfl ?_
      refine w_nx (pc' := 74) rfl ?_
      refine w_nx (pc' := 75) rfl ?_
      obtain ⟨o, z4, e4, k1, k2⟩ := x_be0 (d := d + 11) (k := 8) (x := 0) (y := 0) (okQ_T ho) (okQ_g ho)
      subst k1
      rw [k2] at e4
      refine w_cal (pc' := 78) rfl (a_cv0 rfl rfl rfl (okQ_T ho) rfl rfl) (e4) ?_
      have hbR := be_R (z := z3) (p := ps3.getD n 0) (k := 8) (l := none) (r := none)
      have hT4 : (gT (beP z3 (ps3.getD n 0) 8 none none) (ps3.getD n 0)).1 = 10 := okQ_T ho
      have h100 := okQ_g ho
      refine w_nx (pc' := 79) rfl ?_
      refine w_nx (pc' := 80) rfl ?_
      refine w_nx (pc' := 81) rfl ?_
      refine w_put rfl rfl (hT4) (by omega) rfl rfl rfl ?_
      obtain ⟨w1, w2, w3, w4⟩ := wr_fin (j := n) st3 (rR_trans rR_at r3) (Nat.le_refl _) (Nat.lt_succ_self _) (wr1_sI (k := 3) (v := nI (bm t)) (wr1_be (z := z3) (p := ps3.getD n 0) (k := 8) (l := none) (r := none)))
      exact x_termX (U := .inner 8 0 0 t .leaf) w1 w2 hn (by omega) (.inl ⟨rfl, w3, hbR.1, gI_same ..⟩)
    · subst b2
      rw [b3] at e2
      rw [b1] at hrg
      refine w_thr (rfl) (e2) rfl ?_
      rw [b1]
      exact errQ_now rR_at (stR_at st hrg.2) (by omega)
theorem x_seqL {d dep a n e c : Nat} {tx ps : List Nat} {z : aSt} {Tm : Nat → PR} (hrT : ∀ a, a ≤ tx.length → rng tx a (Tm a)) (ihT : ∀ (a n : Nat) (ps : List Nat) (e c : Nat) (z : aSt), stR z tx a n ps e c → n ≤ a → aW (d + 13) 38 [.ref 101, .int (nI dep)] z (prQ rpS tx a n ps e c (Tm a) z)) (hn : n ≤ a) : ∀ (k b n1 e1 c1 u : Nat) (ps1 : List Nat) (z1 : aSt) (U : Tr), tx.length < k + b → stR z1 tx b n1 ps1 e1 c1 → rR n z ps e c z1 n1 ps1 e1 c1 → n1 + a ≤ n + b → rpS z1 (ix ps1 n n1) U u → wR (aEx (d + 13)) aM_X2_sequence (prQ rpS tx a n ps e c (pC tx Tm k U b) z) 20 [some (.ref 101), some (.int (nI dep)), some (.ref u)] [] z1
  | 0, b, n1, e1, c1, u, ps1, z1, U, hk, st, r, hm, hU => absurd st.2.1 (by omega)
  | k + 1, b, n1, e1, c1, u, ps1, z1, U, hk, st, r, hm, hU => by
    have hT1 := stR_T st
    have h40 := stR_40 st
    have hn1 := r.1
    unfold pC
    refine w_nx (pc' := 21) rfl ?_
    refine w_nx (pc' := 23) (S' := .int (nI 44) :: _) rfl ?_
    obtain ⟨o, z2, e2, ⟨q1, q2, q3⟩ | ⟨q1, q2, q3⟩⟩ := x_takes (d := d + 11) (ch := 44) st.1 (by decide)
    · subst q2
      rw [q3] at e2
      refine w_cal (pc' := 26) rfl (a_cv0 rfl rfl rfl (hT1) rfl rfl) (e2) ?_
      refine w_ifeq rfl rfl rfl (fun g => absurd g (by decide)) (fun _ => ?_)
      rw [if_pos q1]
      have hb1 := tx_le q1 (by decide)
      have st2 := stR_at st hb1
      refine w_nx (pc' := 30) rfl ?_
      obtain ⟨o, z3, e3, ps3, e3', c3, st3, s2, r3⟩ := x_freshR (d := d + 6) st2 (by omega)
      subst s2
      refine w_cal (pc' := 33) rfl (a_cv0 rfl rfl rfl (stR_T st2) rfl rfl) (e3) ?_
      have rr := rR_trans (rR_at (n := n1) (z := z1) (e := e1) (c := c1) (ps := ps1) (v := nI (b + 1))) r3
      have hj : n1 < ps3.length := Nat.lt_of_lt_of_le (Nat.lt_succ_self n1) st3.2.2.1.2.2.2.2.2.1
      refine w_nx (pc' := 36) rfl ?_
      refine w_nx (pc' := 37) rfl ?_
      refine w_nx (pc' := 38) rfl ?_
      refine w_nx (pc' := 39) rfl ?_
      obtain ⟨o, z4, e4, q4⟩ := ihT (b + 1) (n1 + 1) ps3 e3' c3 z3 st3 (by omega)
      have hrg := hrT (b + 1) hb1
      cases hS : Tm (b + 1) with
      | inl x =>
        rw [hS] at q4
        have q5 := errQ_pre (rR_trans r rr) q4
        obtain ⟨z9, n9, e9, c9, ps9, y1, y2, y3, y4, y5⟩ := q4
        subst y2
        refine w_thr (rfl) (e4) rfl ?_
        exact q5
      | inr w =>
        obtain ⟨T, b2⟩ := w
        rw [hS] at q4 hrg
        obtain ⟨s4, n4, e4', c4, ps4, y1, st4, r4, hm4, hR⟩ := q4
        subst y1
        have hrg1 : b + 1 + 1 ≤ b2 := hrg.1
        refine w_cal (pc' := 42) rfl (rfl) (e4) ?_
        have hge : ps4.getD n1 0 = ps3.getD n1 0 := rR_gd r4 hj
        have hn4 := r4.1
        rw [← hge]
        have ho := stR_ok st4 (j := n1) (by omega)
        obtain ⟨o, z5, e5, k1, k2⟩ := x_be2 (d := d + 12) (k := 9) (x := u) (y := s4) (okQ_T ho) (okQ_g ho)
        subst k1
        rw [k2] at e5
        refine w_cal (pc' := 45) rfl (a_cv0 rfl rfl rfl (okQ_T ho) rfl rfl) (e5) ?_
        obtain ⟨w1, w2, w3, w4⟩ := wr_fin (j := n1) st4 (rR_trans rr r4) (Nat.le_refl _) (by omega) (wr1_be (k := 9) (l := some u) (r := some s4))
        have hbR := be_R (z := z4) (p := ps4.getD n1 0) (k := 9) (l := some u) (r := some s4)
        refine w_nx (pc' := 46) rfl ?_
        refine w_nx (pc' := 20) rfl ?_
        exact x_seqL hrT ihT hn k b2 n4 e4' c4 _ ps4 _ (.inner 9 0 0 U T) (by omega) w1 (rR_trans r w2) (by omega) (.inr (.inl ⟨rfl, ⟨w3.1, ix_le w3.2 hn1 (Nat.le_refl _)⟩, hbR.1, ⟨u, hbR.2.1, rpS_on w2 st hU⟩, ⟨s4, hbR.2.2, rpS_sh (w4 (n1 + 1) n4 (.inr (Nat.lt_succ_self _))) (fun _ hb => ix_le hb (by omega) (Nat.le_refl _)) T s4 hR⟩⟩))
    · subst q2
      rw [q3] at e2
      refine w_cal (pc' := 26) rfl (a_cv0 rfl rfl rfl (hT1) rfl rfl) (e2) ?_
      refine w_ifeq rfl rfl rfl (fun _ => ?_) (fun g => absurd rfl g)
      rw [if_neg q1]
      refine w_nx (pc' := 50) rfl ?_
      exact w_fin rfl ⟨u, n1, e1, c1, ps1, rfl, st, r, hm, hU⟩
theorem x_seq0 {d a n e c : Nat} {tx ps : List Nat} {z : aSt} (st : stR z tx a n ps e c) (hn : n ≤ 41) : aW (d + 2) 37 [.ref 101, .int (nI 13)] z (prQ rpS tx a n ps e c (pS tx 0 a) z) := by
  refine w_of (k := 37) (m := aM_X2_sequence) rfl rfl ?_
  refine w_nx (pc' := 1) rfl ?_
  refine w_nx (pc' := 3) (S' := .int (nI 12) :: _) rfl ?_
  refine w_ncgt rfl rfl rfl (rfl) (rfl) (by omega) (by omega) (fun hb => ?_) (fun hb => ?_)
  · refine w_nx (pc' := 11) (S' := .int (nI 0) :: _) rfl ?_
    obtain ⟨o, z1, e1, q1, q2⟩ := x_need0 (d := d) (z := z)
    subst q1
    rw [q2] at e1
    refine w_thr (rfl) (e1) rfl ?_
    exact errQ_now (rR_refl (Nat.le_refl _)) st hn
  · omega
theorem x_seq1 {d dep a n e c : Nat} {tx ps : List Nat} {z : aSt} {Tm : Nat → PR} (hrT : ∀ a, a ≤ tx.length → rng tx a (Tm a)) (ihT : ∀ (a n : Nat) (ps : List Nat) (e c : Nat) (z : aSt), stR z tx a n ps e c → n ≤ a → aW (d + 13) 38 [.ref 101, .int (nI dep)] z (prQ rpS tx a n ps e c (Tm a) z)) (hd : dep ≤ 12) (st : stR z tx a n ps e c) (hn : n ≤ a) : aW (d + 14) 37 [.ref 101, .int (nI dep)] z (prQ rpS tx a n ps e c (bindP (Tm a) fun s b => pC tx Tm 41 s b) z) := by
  have h41 := st.1.2.2.2.2.1
  refine w_of (k := 37) (m := aM_X2_sequence) rfl rfl ?_
  refine w_nx (pc' := 1) rfl ?_
  refine w_nx (pc' := 3) (S' := .int (nI 12) :: _) rfl ?_
  refine w_ncgt rfl rfl rfl (rfl) (rfl) (by omega) (by omega) (fun hb => ?_) (fun hb => ?_)
  · omega
  · refine w_nx (pc' := 7) (S' := .int (nI 1) :: _) rfl ?_
    refine w_nx (pc' := 11) rfl ?_
    obtain ⟨o, z1, e1, q1, q2⟩ := x_need1 (d := d + 12) (z := z)
    subst q1
    rw [q2] at e1
    refine w_cal (pc' := 14) rfl (rfl) (e1) ?_
    refine w_nx (pc' := 15) rfl ?_
    refine w_nx (pc' := 16) rfl ?_
    obtain ⟨o, z4, e4, q4⟩ := ihT a n ps e c z st hn
    have hrg := hrT a st.2.1
    cases hS : Tm a with
    | inl x =>
      rw [hS] at q4
      have q5 := q4
      obtain ⟨z9, n9, e9, c9, ps9, y1, y2, y3, y4, y5⟩ := q4
      subst y2
      refine w_thr (rfl) (e4) rfl ?_
      exact q5
    | inr w =>
      obtain ⟨T, b2⟩ := w
      rw [hS] at q4 hrg
      obtain ⟨s4, n4, e4', c4, ps4, y1, st4, r4, hm4, hR⟩ := q4
      subst y1
      have hrg1 : a + 1 ≤ b2 := hrg.1
      refine w_cal (pc' := 19) rfl (rfl) (e4) ?_
      refine w_nx (pc' := 20) rfl ?_
      exact x_seqL hrT ihT hn 41 b2 n4 e4' c4 s4 ps4 _ T (by omega) st4 r4 hm4 hR
theorem x_seq {tx : List Nat} : ∀ (f dep d a n : Nat) (ps : List Nat) (e c : Nat) (z : aSt), dep + f = 13 → stR z tx a n ps e c → n ≤ a → aW (d + 2 * f + 12) 37 [.ref 101, .int (nI dep)] z (prQ rpS tx a n ps e c (pS tx f a) z)
  | 0, dep, d, a, n, ps, e, c, z, hd, st, hn => by
    have e : dep = 13 := by omega
    have h40 := stR_40 st
    subst e
    exact x_seq0 (d := d + 10) st (by omega)
  | f + 1, dep, d, a, n, ps, e, c, z, hd, st, hn => by
    refine x_seq1 (d := d + 2 * f) (fun a ha => rng_T tx (rng_S tx f) (rng_B tx f) a ha) (fun a n ps e c z st hn => x_term (d := d + 2 * f) (fun a n ps e c z st hn => x_seq f (dep + 1) d a n ps e c z (by omega) st hn) (fun a z hr => ?_) a n ps e c z st hn) (by omega) st hn
    have h := x_bool f (dep + 1) (d + f + 8) a z (by omega) hr
    rw [show d + f + 8 + f + 4 = d + 2 * f + 12 by omega] at h
    exact h
