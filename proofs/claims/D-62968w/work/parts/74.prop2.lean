/-! Reader.property, the walk -/
set_option maxRecDepth 100000
theorem pr_off : ∀ n, n < 128 → n ≠ 40 → n ≠ 71 → n ≠ 88 → n ≠ 123 → Op.lookupswitch.offset [((40 : Int), (160 : Int)), (71, 44), (88, 44), (123, 87)] 255 (nI n).toInt = 255 := by decide
def propS (tx : List Nat) (D f dep : Nat) : Prop := ∀ (a n : Nat) (ps : List Nat) (e c : Nat) (z : aSt), stR z tx a n ps e c → n ≤ a → aW D 33 [.ref 101, .int (nI dep)] z (prQ rpN tx a n ps e c (pPr tx f a) z)
def seqS (tx : List Nat) (D f dep : Nat) : Prop := ∀ (a n : Nat) (ps : List Nat) (e c : Nat) (z : aSt), stR z tx a n ps e c → n ≤ a → aW D 37 [.ref 101, .int (nI dep)] z (prQ rpS tx a n ps e c (pS tx f a) z)
theorem stR_nd {z : aSt} {tx : List Nat} {a n e c : Nat} {ps : List Nat} (h : stR z tx a n ps e c) : ps.Nodup := h.2.2.1.2.2.2.2.2.2.2.1
theorem st_ix {z : aSt} {tx : List Nat} {a n e c j lo hi : Nat} {ps : List Nat} (h : stR z tx a n ps e c) (hj : j < n) (hh : hi ≤ j ∨ j < lo) : ¬ ix ps lo hi (ps.getD j 0) := by
  rintro ⟨i, g1, g2, g3, g4⟩
  exact nd_get (stR_nd h) g3 (Nat.lt_of_lt_of_le hj h.2.2.1.2.2.2.2.2.1) (by omega) g4
theorem x_propU {d dep f a n e c ch k : Nat} {tx ps : List Nat} {z : aSt} (ihP : propS tx (d + 14) f (dep + 1)) (st : stR z tx a n ps e c) (hn : n ≤ a) (hch : tx.getD a 0 = ch) (hk : ch = 71 ∧ k = 1 ∨ ch = 88 ∧ k = 2) (v3 v4 v5 : Option Value) : wR (aEx (d + 14)) aM_X2_property (prQ rpN tx a n ps e c (bindP (pPr tx f (a + 1)) fun p b => .inr (.inner k 0 0 p .leaf, b)) z) 64 [some (.ref 101), some (.int (nI dep)), some (.int (nI ch)), v3, v4, v5] [] z := by
  have hT := stR_T st
  have h40 := stR_40 st
  have hb1 := tx_le hch (by omega)
  have st1 := stR_at st hb1
  refine w_nx (pc' := 65) rfl ?_
  refine w_nx (pc' := 66) rfl ?_
  refine w_getI rfl rfl (hT) rfl rfl ?_
  refine w_top (st.1.2.2.2.2.2.2.2.1) ?_
  refine w_nx (pc' := 70) (S' := .int (nI 1) :: _) rfl ?_
  refine w_nx (pc' := 71) rfl ?_
  refine w_top (nI_add _ _) ?_
  refine w_put rfl rfl (hT) (by omega) rfl rfl rfl ?_
  refine w_nx (pc' := 75) rfl ?_
  refine w_nx (pc' := 76) rfl ?_
  refine w_nx (pc' := 77) (S' := .int (nI 1) :: _) rfl ?_
  refine w_nx (pc' := 78) rfl ?_
  refine w_top (nI_add _ _) ?_
  obtain ⟨o, z4, e4, q4⟩ := ihP (a + 1) n ps e c _ st1 (by omega)
  cases hS : pPr tx f (a + 1) with
  | inl x =>
    rw [hS] at q4
    have q5 := errQ_pre (rR_at (n := n) (z := z) (e := e) (c := c) (ps := ps) (v := nI (a + 1))) q4
    obtain ⟨z9, n9, e9, c9, ps9, y1, y2, y3, y4, y5⟩ := q4
    subst y2
    refine w_thr (rfl) (e4) rfl ?_
    exact q5
  | inr w =>
    obtain ⟨T, b2⟩ := w
    rw [hS] at q4
    obtain ⟨s4, n4, e4', c4, ps4, y1, st4, r4, hm4, hR⟩ := q4
    subst y1
    have h40' := stR_40 st4
    have hn4 := r4.1
    have hm4' : n4 + (a + 1) ≤ n + b2 := hm4
    refine w_cal (pc' := 81) rfl (rfl) (e4) ?_
    refine w_nx (pc' := 82) rfl ?_
    refine w_nx (pc' := 83) rfl ?_
    obtain ⟨o, z5, e5, ps5, e5', c5, st5, s5, r5⟩ := x_freshR (d := d + 7) st4 (by omega)
    subst s5
    refine w_cal (pc' := 86) rfl (a_cv0 rfl rfl rfl (stR_T st4) rfl rfl) (e5) ?_
    have ho := stR_ok st5 (Nat.lt_succ_self n4)
    have fin : ∀ k, k = 1 ∨ k = 2 → prQ rpN tx a n ps e c (bindP (.inr (T, b2)) fun p b => .inr (.inner k 0 0 p .leaf, b)) z (.inl (some (.ref (ps5.getD n4 0)))) (beP z5 (ps5.getD n4 0) k (some s4) none) := by
      intro k hk
      obtain ⟨w1, w2, w3, w4⟩ := wr_fin (j := n4) st5 r5 (Nat.le_refl _) (Nat.lt_succ_self _) (wr1_be (z := z5) (k := k) (l := some s4) (r := none))
      have hbR := be_R (z := z5) (p := ps5.getD n4 0) (k := k) (l := some s4) (r := none)
      exact ⟨_, n4 + 1, _, _, ps5, rfl, w1, rR_trans (rR_trans rR_at r4) w2, (by show n4 + 1 + a ≤ n + b2; omega), mk1 hk ⟨w3.1, ix_le w3.2 hn4 (Nat.le_refl _)⟩ hbR.1 hbR.2.1 (rpN_on w2 st4 hR) (fun _ hb => ix_le hb (Nat.le_refl _) (by omega)) (st_ix w1 (Nat.lt_succ_self _) (.inl (Nat.le_refl _)))⟩
    rcases hk with ⟨rfl, rfl⟩ | ⟨rfl, rfl⟩
    · refine w_nx (pc' := 87) rfl ?_
      refine w_nx (pc' := 89) (S' := .int (nI 71) :: _) rfl ?_
      refine w_ncne rfl rfl rfl rfl rfl (by decide) (by decide) (fun g => absurd rfl g) (fun _ => ?_)
      refine w_nx (pc' := 95) rfl ?_
      refine w_nx (pc' := 101) rfl ?_
      refine w_nx (pc' := 102) rfl ?_
      refine w_nx (pc' := 103) rfl ?_
      obtain ⟨o, z6, e6, k1, k2⟩ := x_be1 (d := d + 13) (k := 1) (x := s4) (y := 0) (okQ_T ho) (okQ_g ho)
      subst k1
      rw [k2] at e6
      refine w_cal (pc' := 106) rfl (a_cv0 rfl rfl rfl (okQ_T ho) rfl rfl) (e6) ?_
      exact w_fin rfl (fin 1 (.inl rfl))
    · refine w_nx (pc' := 87) rfl ?_
      refine w_nx (pc' := 89) (S' := .int (nI 71) :: _) rfl ?_
      refine w_ncne rfl rfl rfl rfl rfl (by decide) (by decide) (fun _ => ?_) (fun g => absurd g (by decide))
      refine w_nx (pc' := 101) rfl ?_
      refine w_nx (pc' := 102) rfl ?_
      refine w_nx (pc' := 103) rfl ?_
      obtain ⟨o, z6, e6, k1, k2⟩ := x_be1 (d := d + 13) (k := 2) (x := s4) (y := 0) (okQ_T ho) (okQ_g ho)
      subst k1
      rw [k2] at e6
      refine w_cal (pc' := 106) rfl (a_cv0 rfl rfl rfl (okQ_T ho) rfl rfl) (e6) ?_
      exact w_fin rfl (fin 2 (.inr rfl))
theorem x_propS {d dep f a n e c : Nat} {tx ps : List Nat} {z : aSt} (ihP : propS tx (d + 14) f (dep + 1)) (ihS : seqS tx (d + 14) f (dep + 1)) (st : stR z tx a n ps e c) (hn : n ≤ a) (hch : tx.getD a 0 = 123) (v3 v4 v5 : Option Value) : wR (aEx (d + 14)) aM_X2_property (prQ rpN tx a n ps e c (bindP (pS tx f (a + 1)) fun s b =>
      if tx.getD b 0 = 125 then
        (if tx.getD (b + 1) 0 = 62 ∨ tx.getD (b + 1) 0 = 58 then bindP (pPr tx f (b + 2)) fun p c => .inr (.inner (if tx.getD (b + 1) 0 = 62 then 3 else 4) 0 0 s p, c) else .inl (b + 1))
      else .inl b) z) 107 [some (.ref 101), some (.int (nI dep)), some (.int (nI 123)), v3, v4, v5] [] z := by
  have hT := stR_T st
  have h40 := stR_40 st
  have hb1 := tx_le hch (by omega)
  have st1 := stR_at st hb1
  refine w_nx (pc' := 108) rfl ?_
  refine w_nx (pc' := 109) rfl ?_
  refine w_getI rfl rfl (hT) rfl rfl ?_
  refine w_top (st.1.2.2.2.2.2.2.2.1) ?_
  refine w_nx (pc' := 113) (S' := .int (nI 1) :: _) rfl ?_
  refine w_nx (pc' := 114) rfl ?_
  refine w_top (nI_add _ _) ?_
  refine w_put rfl rfl (hT) (by omega) rfl rfl rfl ?_
  refine w_nx (pc' := 118) rfl ?_
  refine w_nx (pc' := 119) rfl ?_
  refine w_nx (pc' := 120) (S' := .int (nI 1) :: _) rfl ?_
  refine w_nx (pc' := 121) rfl ?_
  refine w_top (nI_add _ _) ?_
  obtain ⟨o, z4, e4, q4⟩ := ihS (a + 1) n ps e c _ st1 (by omega)
  cases hS : pS tx f (a + 1) with
  | inl x =>
    rw [hS] at q4
    have q5 := errQ_pre (rR_at (n := n) (z := z) (e := e) (c := c) (ps := ps) (v := nI (a + 1))) q4
    obtain ⟨z9, n9, e9, c9, ps9, y1, y2, y3, y4, y5⟩ := q4
    subst y2
    refine w_thr (rfl) (e4) rfl ?_
    exact q5
  | inr w =>
    obtain ⟨S, b⟩ := w
    rw [hS] at q4
    obtain ⟨s4, n4, e4', c4, ps4, y1, st4, r4, hm4, hR⟩ := q4
    subst y1
    have h40' := stR_40 st4
    have hn4 := r4.1
    have hm4' : n4 + (a + 1) ≤ n + b := hm4
    have r4' : rR n z ps e c z4 n4 ps4 e4' c4 := rR_trans rR_at r4
    refine w_cal (pc' := 124) rfl (rfl) (e4) ?_
    show wR _ _ (prQ rpN tx a n ps e c (if tx.getD b 0 = 125 then
        (if tx.getD (b + 1) 0 = 62 ∨ tx.getD (b + 1) 0 = 58 then bindP (pPr tx f (b + 2)) fun p c => .inr (.inner (if tx.getD (b + 1) 0 = 62 then 3 else 4) 0 0 S p, c) else .inl (b + 1))
      else .inl b) z) _ _ _ _
    refine w_nx (pc' := 125) rfl ?_
    refine w_nx (pc' := 126) rfl ?_
    refine w_nx (pc' := 128) (S' := .int (nI 125) :: _) rfl ?_
    obtain ⟨o, z5, e5, ⟨b1, b2, b3⟩ | ⟨b1, b2, b3⟩⟩ := x_rtake (d := d + 11) (ch := 125) st4.1 (by decide)
    · subst b2
      rw [b3] at e5
      refine w_cal (pc' := 131) rfl (a_cv0 rfl rfl rfl (stR_T st4) rfl rfl) (e5) ?_
      rw [if_pos b1]
      have hb2 := tx_le b1 (by decide)
      have st5 := stR_at st4 hb2
      have r5 : rR n z ps e c (sI z4 101 2 (nI (b + 1))) n4 ps4 e4' c4 := rR_trans r4' rR_at
      have hR5 : rpS (sI z4 101 2 (nI (b + 1))) (ix ps4 n n4) S s4 := rpS_on (rR_at (n := n4)) st4 hR
      generalize sI z4 101 2 (nI (b + 1)) = z5 at st5 r5 hR5 ⊢
      have tl : ∀ (w k : Nat) (hw : (tx.getD (b + 1) 0 = 62 ∧ w = 1 ∧ k = 3) ∨ (tx.getD (b + 1) 0 = 58 ∧ w = 0 ∧ k = 4)), wR (aEx (d + 14)) aM_X2_property (prQ rpN tx a n ps e c (bindP (pPr tx f (b + 2)) fun p c => .inr (.inner k 0 0 S p, c)) z) 150 [some (.ref 101), some (.int (nI dep)), some (.int (nI 123)), some (.ref s4), some (.int (nI w)), v5] [] (sI z5 101 2 (nI (b + 1 + 1))) := by
        intro w k hw
        have hb3 : b + 1 + 1 ≤ tx.length := by rcases hw with g | g <;> exact tx_le g.1 (by decide)
        have st6 := stR_at st5 hb3
        have hk : k = 3 ∨ k = 4 := by omega
        refine w_nx (pc' := 151) rfl ?_
        obtain ⟨o, z7, e7, ps7, e7', c7, st7, s7, r7⟩ := x_freshR (d := d + 7) st6 (by omega)
        subst s7
        refine w_cal (pc' := 154) rfl (a_cv0 rfl rfl rfl (stR_T st6) rfl rfl) (e7) ?_
        have rr := rR_trans (rR_at (n := n4) (z := z5) (e := e4') (c := c4) (ps := ps4) (v := nI (b + 1 + 1))) r7
        have hj : n4 < ps7.length := Nat.lt_of_lt_of_le (Nat.lt_succ_self n4) st7.2.2.1.2.2.2.2.2.1
        have tl2 : wR (aEx (d + 14)) aM_X2_property (prQ rpN tx a n ps e c (bindP (pPr tx f (b + 2)) fun p c => .inr (.inner k 0 0 S p, c)) z) 168 [some (.ref 101), some (.int (nI dep)), some (.int (nI 123)), some (.ref s4), some (.int (nI w)), v5] [.ref k, .ref (ps7.getD n4 0)] z7 := by
          refine w_nx (pc' := 169) rfl ?_
          refine w_nx (pc' := 170) rfl ?_
          refine w_nx (pc' := 171) rfl ?_
          refine w_nx (pc' := 172) (S' := .int (nI 1) :: _) rfl ?_
          refine w_nx (pc' := 173) rfl ?_
          refine w_top (nI_add _ _) ?_
          obtain ⟨o, z8, e8, q8⟩ := ihP (b + 2) (n4 + 1) ps7 e7' c7 z7 st7 (by omega)
          cases hS2 : pPr tx f (b + 2) with
          | inl x =>
            rw [hS2] at q8
            have q9 := errQ_pre (rR_trans r5 rr) q8
            obtain ⟨z9, n9, e9, c9, ps9, y1, y2, y3, y4, y5⟩ := q8
            subst y2
            refine w_thr (rfl) (e8) rfl ?_
            exact q9
          | inr w =>
            obtain ⟨T, cc⟩ := w
            rw [hS2] at q8
            obtain ⟨s8, n8, e8', c8, ps8, y1, st8, r8, hm8, hR8⟩ := q8
            subst y1
            refine w_cal (pc' := 176) rfl (rfl) (e8) ?_
            have hge : ps8.getD n4 0 = ps7.getD n4 0 := rR_gd r8 hj
            have hn8 := r8.1
            have hm8' : n8 + (b + 2) ≤ n4 + 1 + cc := hm8
            rw [← hge]
            have ho := stR_ok st8 (j := n4) (by omega)
            obtain ⟨o, z9, e9, k1, k2⟩ := x_be2 (d := d + 13) (k := k) (x := s4) (y := s8) (okQ_T ho) (okQ_g ho)
            subst k1
            rw [k2] at e9
            refine w_cal (pc' := 179) rfl (a_cv0 rfl rfl rfl (okQ_T ho) rfl rfl) (e9) ?_
            obtain ⟨w1, w2, w3, w4⟩ := wr_fin (j := n4) st8 (rR_trans rr r8) (Nat.le_refl _) (by omega) (wr1_be (z := z8) (k := k) (l := some s4) (r := some s8))
            have hbR := be_R (z := z8) (p := ps8.getD n4 0) (k := k) (l := some s4) (r := some s8)
            exact w_fin rfl ⟨_, n8, _, _, ps8, rfl, w1, rR_trans r5 w2, (by show n8 + a ≤ n + cc; omega), mk2 hk ⟨w3.1, ix_le w3.2 hn4 (Nat.le_refl _)⟩ hbR.1 hbR.2.1 hbR.2.2 (rpS_on w2 st5 hR5) (rpN_sh hR8 (w4 (n4 + 1) n8 (.inr (Nat.lt_succ_self _)))) (fun _ hb => hb) (fun _ hb => ix_le hb (by omega) (Nat.le_refl _)) (st_ix w1 (by omega) (.inr (Nat.lt_succ_self _)))⟩
        rcases hw with ⟨g1, rfl, rfl⟩ | ⟨g1, rfl, rfl⟩
        · refine w_nx (pc' := 156) rfl ?_
          refine w_ifeq rfl rfl rfl (fun g => absurd g (by decide)) (fun _ => ?_)
          refine w_nx (pc' := 162) rfl ?_
          refine w_nx (pc' := 168) rfl ?_
          exact tl2
        · refine w_nx (pc' := 156) rfl ?_
          refine w_ifeq rfl rfl rfl (fun _ => ?_) (fun g => absurd rfl g)
          refine w_nx (pc' := 168) rfl ?_
          exact tl2
      refine w_nx (pc' := 132) rfl ?_
      refine w_nx (pc' := 134) (S' := .int (nI 62) :: _) rfl ?_
      obtain ⟨o, z6, e6, ⟨b4, b5, b6⟩ | ⟨b4, b5, b6⟩⟩ := x_takes (d := d + 12) (ch := 62) st5.1 (by decide)
      · subst b5
        rw [b6] at e6
        refine w_cal (pc' := 137) rfl (a_cv0 rfl rfl rfl (stR_T st5) rfl rfl) (e6) ?_
        refine w_nx (pc' := 139) rfl ?_
        refine w_nx (pc' := 141) rfl ?_
        refine w_ifne rfl rfl rfl (fun _ => ?_) (fun g => absurd (show ¬ nI 1 = 0 by decide) g)
        rw [if_pos (.inl b4), if_pos b4]
        exact tl 1 3 (.inl ⟨b4, rfl, rfl⟩)
      · subst b5
        rw [b6] at e6
        refine w_cal (pc' := 137) rfl (a_cv0 rfl rfl rfl (stR_T st5) rfl rfl) (e6) ?_
        refine w_nx (pc' := 139) rfl ?_
        refine w_nx (pc' := 141) rfl ?_
        refine w_ifne rfl rfl rfl (fun g => absurd rfl g) (fun _ => ?_)
        refine w_nx (pc' := 145) rfl ?_
        refine w_nx (pc' := 147) (S' := .int (nI 58) :: _) rfl ?_
        obtain ⟨o, z7, e7, ⟨b7, b8, b9⟩ | ⟨b7, b8, b9⟩⟩ := x_rtake (d := d + 11) (ch := 58) st5.1 (by decide)
        · subst b8
          rw [b9] at e7
          refine w_cal (pc' := 150) rfl (a_cv0 rfl rfl rfl (stR_T st5) rfl rfl) (e7) ?_
          rw [if_pos (.inr b7), if_neg b4]
          exact tl 0 4 (.inr ⟨b7, rfl, rfl⟩)
        · subst b8
          rw [b9] at e7
          refine w_thr (a_cv0 rfl rfl rfl (stR_T st5) rfl rfl) (e7) rfl ?_
          rw [if_neg (fun g => g.elim b4 b7)]
          exact errQ_now r5 st5 (by omega)
    · subst b2
      rw [b3] at e5
      refine w_thr (a_cv0 rfl rfl rfl (stR_T st4) rfl rfl) (e5) rfl ?_
      rw [if_neg b1]
      exact errQ_now r4' st4 (by omega)
theorem x_propB {d dep f a n e c : Nat} {tx ps : List Nat} {z : aSt} (ihP : propS tx (d + 14) f (dep + 1)) (st : stR z tx a n ps e c) (hn : n ≤ a) (hch : tx.getD a 0 = 40) (v3 v4 v5 : Option Value) : wR (aEx (d + 14)) aM_X2_property (prQ rpN tx a n ps e c (bindP (pPr tx f (a + 1)) fun p b =>
      if tx.getD b 0 = 38 ∨ tx.getD b 0 = 124 ∨ tx.getD b 0 = 87 then bindP (pPr tx f (b + 1)) fun q c =>
        if tx.getD c 0 = 41 then .inr (.inner (if tx.getD b 0 = 38 then 5 else if tx.getD b 0 = 124 then 6 else 7) 0 0 p q, c + 1) else .inl c
      else .inl b) z) 180 [some (.ref 101), some (.int (nI dep)), some (.int (nI 40)), v3, v4, v5] [] z := by
  have hT := stR_T st
  have h40 := stR_40 st
  have hb1 := tx_le hch (by omega)
  have st1 := stR_at st hb1
  refine w_nx (pc' := 181) rfl ?_
  refine w_nx (pc' := 182) rfl ?_
  refine w_getI rfl rfl (hT) rfl rfl ?_
  refine w_top (st.1.2.2.2.2.2.2.2.1) ?_
  refine w_nx (pc' := 186) (S' := .int (nI 1) :: _) rfl ?_
  refine w_nx (pc' := 187) rfl ?_
  refine w_top (nI_add _ _) ?_
  refine w_put rfl rfl (hT) (by omega) rfl rfl rfl ?_
  refine w_nx (pc' := 191) rfl ?_
  refine w_nx (pc' := 192) rfl ?_
  refine w_nx (pc' := 193) (S' := .int (nI 1) :: _) rfl ?_
  refine w_nx (pc' := 194) rfl ?_
  refine w_top (nI_add _ _) ?_
  obtain ⟨o, z4, e4, q4⟩ := ihP (a + 1) n ps e c _ st1 (by omega)
  cases hS : pPr tx f (a + 1) with
  | inl x =>
    rw [hS] at q4
    have q5 := errQ_pre (rR_at (n := n) (z := z) (e := e) (c := c) (ps := ps) (v := nI (a + 1))) q4
    obtain ⟨z9, n9, e9, c9, ps9, y1, y2, y3, y4, y5⟩ := q4
    subst y2
    refine w_thr (rfl) (e4) rfl ?_
    exact q5
  | inr w =>
    obtain ⟨S, b⟩ := w
    rw [hS] at q4
    obtain ⟨s4, n4, e4', c4, ps4, y1, st4, r4, hm4, hR⟩ := q4
    subst y1
    have h40' := stR_40 st4
    have hn4 := r4.1
    have hm4' : n4 + (a + 1) ≤ n + b := hm4
    have r4' : rR n z ps e c z4 n4 ps4 e4' c4 := rR_trans rR_at r4
    refine w_cal (pc' := 197) rfl (rfl) (e4) ?_
    show wR _ _ (prQ rpN tx a n ps e c (if tx.getD b 0 = 38 ∨ tx.getD b 0 = 124 ∨ tx.getD b 0 = 87 then bindP (pPr tx f (b + 1)) fun q c =>
        if tx.getD c 0 = 41 then .inr (.inner (if tx.getD b 0 = 38 then 5 else if tx.getD b 0 = 124 then 6 else 7) 0 0 S q, c + 1) else .inl c
      else .inl b) z) _ _ _ _
    have tl : ∀ (k : Nat) (hk : k = 5 ∨ k = 6 ∨ k = 7) (hb2 : b + 1 ≤ tx.length), wR (aEx (d + 14)) aM_X2_property (prQ rpN tx a n ps e c (bindP (pPr tx f (b + 1)) fun q c => if tx.getD c 0 = 41 then .inr (.inner k 0 0 S q, c + 1) else .inl c) z) 247 [some (.ref 101), some (.int (nI dep)), some (.int (nI 40)), some (.ref s4), some (.ref k), v5] [] (sI z4 101 2 (nI (b + 1))) := by
      intro k hk hb2
      have st5 := stR_at st4 hb2
      have r5 : rR n z ps e c (sI z4 101 2 (nI (b + 1))) n4 ps4 e4' c4 := rR_trans r4' rR_at
      have hR5 : rpN (sI z4 101 2 (nI (b + 1))) (ix ps4 n n4) S s4 := rpN_on (rR_at (n := n4)) st4 hR
      generalize sI z4 101 2 (nI (b + 1)) = z5 at st5 r5 hR5 ⊢
      refine w_nx (pc' := 248) rfl ?_
      refine w_nx (pc' := 249) rfl ?_
      refine w_nx (pc' := 250) (S' := .int (nI 1) :: _) rfl ?_
      refine w_nx (pc' := 251) rfl ?_
      refine w_top (nI_add _ _) ?_
      obtain ⟨o, z8, e8, q8⟩ := ihP (b + 1) n4 ps4 e4' c4 z5 st5 (by omega)
      cases hS2 : pPr tx f (b + 1) with
      | inl x =>
        rw [hS2] at q8
        have q9 := errQ_pre r5 q8
        obtain ⟨z9, n9, e9, c9, ps9, y1, y2, y3, y4, y5⟩ := q8
        subst y2
        refine w_thr (rfl) (e8) rfl ?_
        exact q9
      | inr w =>
        obtain ⟨T, cc⟩ := w
        rw [hS2] at q8
        obtain ⟨s8, n8, e8', c8, ps8, y1, st8, r8, hm8, hR8⟩ := q8
        subst y1
        refine w_cal (pc' := 254) rfl (rfl) (e8) ?_
        have hn8 := r8.1
        have hm8' : n8 + (b + 1) ≤ n4 + cc := hm8
        have h408 := stR_40 st8
        show wR _ _ (prQ rpN tx a n ps e c (if tx.getD cc 0 = 41 then .inr (.inner k 0 0 S T, cc + 1) else .inl cc) z) _ _ _ _
        refine w_nx (pc' := 256) rfl ?_
        refine w_nx (pc' := 257) rfl ?_
        refine w_nx (pc' := 259) (S' := .int (nI 41) :: _) rfl ?_
        obtain ⟨o, z9, e9, ⟨b1, b2, b3⟩ | ⟨b1, b2, b3⟩⟩ := x_rtake (d := d + 11) (ch := 41) st8.1 (by decide)
        · subst b2
          rw [b3] at e9
          refine w_cal (pc' := 262) rfl (a_cv0 rfl rfl rfl (stR_T st8) rfl rfl) (e9) ?_
          rw [if_pos b1]
          have st9 := stR_at st8 (tx_le b1 (by decide))
          refine w_nx (pc' := 263) rfl ?_
          obtain ⟨o, z10, e10, ps10, e10', c10, st10, s10, r10⟩ := x_freshR (d := d + 7) st9 (by omega)
          subst s10
          refine w_cal (pc' := 266) rfl (a_cv0 rfl rfl rfl (stR_T st9) rfl rfl) (e10) ?_
          have ho := stR_ok st10 (j := n8) (Nat.lt_succ_self _)
          refine w_nx (pc' := 268) rfl ?_
          refine w_nx (pc' := 269) rfl ?_
          refine w_nx (pc' := 271) rfl ?_
          obtain ⟨o, z11, e11, k1, k2⟩ := x_be2 (d := d + 13) (k := k) (x := s4) (y := s8) (okQ_T ho) (okQ_g ho)
          subst k1
          rw [k2] at e11
          refine w_cal (pc' := 274) rfl (a_cv0 rfl rfl rfl (okQ_T ho) rfl rfl) (e11) ?_
          obtain ⟨w1, w2, w3, w4⟩ := wr_fin (j := n8) st10 (rR_trans (rR_at (n := n8) (z := z8) (e := e8') (c := c8) (ps := ps8) (v := nI (cc + 1))) r10) (Nat.le_refl _) (Nat.lt_succ_self _) (wr1_be (z := z10) (k := k) (l := some s4) (r := some s8))
          have hbR := be_R (z := z10) (p := ps10.getD n8 0) (k := k) (l := some s4) (r := some s8)
          exact w_fin rfl ⟨_, n8 + 1, _, _, ps10, rfl, w1, rR_trans r5 (rR_trans r8 w2), (by show n8 + 1 + a ≤ n + (cc + 1); omega), mk3 hk ⟨w3.1, ix_le w3.2 (by omega) (Nat.le_refl _)⟩ hbR.1 hbR.2.1 hbR.2.2 (rpN_on (rR_trans r8 w2) st5 hR5) (rpN_on w2 st8 hR8) (fun _ hb => ix_le hb (Nat.le_refl _) (by omega)) (fun _ hb => ix_le hb (by omega) (by omega)) (st_ix w1 (Nat.lt_succ_self _) (.inl (Nat.le_refl _))) (st_ix w1 (Nat.lt_succ_self _) (.inl (by omega))) (fun b hb hb' => ix_dis (stR_nd w1) hb hb' (.inl (Nat.le_refl _)))⟩
        · subst b2
          rw [b3] at e9
          refine w_thr (a_cv0 rfl rfl rfl (stR_T st8) rfl rfl) (e9) rfl ?_
          rw [if_neg b1]
          exact errQ_now (rR_trans r5 r8) st8 (by omega)
    refine w_nx (pc' := 198) rfl ?_
    refine w_nx (pc' := 199) rfl ?_
    refine w_nx (pc' := 201) (S' := .int (nI 38) :: _) rfl ?_
    obtain ⟨o, z5, e5, ⟨b1, b2, b3⟩ | ⟨b1, b2, b3⟩⟩ := x_takes (d := d + 12) (ch := 38) st4.1 (by decide)
    · subst b2
      rw [b3] at e5
      refine w_cal (pc' := 204) rfl (a_cv0 rfl rfl rfl (stR_T st4) rfl rfl) (e5) ?_
      refine w_ifeq rfl rfl rfl (fun g => absurd g (by decide)) (fun _ => ?_)
      rw [if_pos (.inl b1), if_pos b1]
      refine w_nx (pc' := 210) rfl ?_
      refine w_nx (pc' := 231) rfl ?_
      refine w_nx (pc' := 233) rfl ?_
      refine w_nx (pc' := 235) rfl ?_
      refine w_nx (pc' := 238) rfl ?_
      refine w_an (u := some 5) (v := some 7) rfl rfl rfl rfl (fun _ => ?_) (fun h => by cases h)
      exact tl 5 (.inl rfl) (tx_le b1 (by decide))
    · subst b2
      rw [b3] at e5
      refine w_cal (pc' := 204) rfl (a_cv0 rfl rfl rfl (stR_T st4) rfl rfl) (e5) ?_
      refine w_ifeq rfl rfl rfl (fun _ => ?_) (fun g => absurd rfl g)
      refine w_nx (pc' := 214) rfl ?_
      refine w_nx (pc' := 216) (S' := .int (nI 124) :: _) rfl ?_
      obtain ⟨o, z6, e6, ⟨b4, b5, b6⟩ | ⟨b4, b5, b6⟩⟩ := x_takes (d := d + 12) (ch := 124) st4.1 (by decide)
      · subst b5
        rw [b6] at e6
        refine w_cal (pc' := 219) rfl (a_cv0 rfl rfl rfl (stR_T st4) rfl rfl) (e6) ?_
        refine w_ifeq rfl rfl rfl (fun g => absurd g (by decide)) (fun _ => ?_)
        rw [if_pos (.inr (.inl b4)), if_neg b1, if_pos b4]
        refine w_nx (pc' := 225) rfl ?_
        refine w_nx (pc' := 231) rfl ?_
        refine w_nx (pc' := 233) rfl ?_
        refine w_nx (pc' := 235) rfl ?_
        refine w_nx (pc' := 238) rfl ?_
        refine w_an (u := some 6) (v := some 7) rfl rfl rfl rfl (fun _ => ?_) (fun h => by cases h)
        exact tl 6 (.inr (.inl rfl)) (tx_le b4 (by decide))
      · subst b5
        rw [b6] at e6
        refine w_cal (pc' := 219) rfl (a_cv0 rfl rfl rfl (stR_T st4) rfl rfl) (e6) ?_
        refine w_ifeq rfl rfl rfl (fun _ => ?_) (fun g => absurd rfl g)
        refine w_nx (pc' := 231) rfl ?_
        refine w_nx (pc' := 233) rfl ?_
        refine w_nx (pc' := 235) rfl ?_
        refine w_nx (pc' := 238) rfl ?_
        refine w_an (u := some 7) (v := some 7) rfl rfl rfl rfl (fun h => absurd rfl h) (fun _ => ?_)
        refine w_nx (pc' := 242) rfl ?_
        refine w_nx (pc' := 244) (S' := .int (nI 87) :: _) rfl ?_
        obtain ⟨o, z7, e7, ⟨b7, b8, b9⟩ | ⟨b7, b8, b9⟩⟩ := x_rtake (d := d + 11) (ch := 87) st4.1 (by decide)
        · subst b8
          rw [b9] at e7
          refine w_cal (pc' := 247) rfl (a_cv0 rfl rfl rfl (stR_T st4) rfl rfl) (e7) ?_
          rw [if_pos (.inr (.inr b7)), if_neg b1, if_neg b4]
          exact tl 7 (.inr (.inr rfl)) (tx_le b7 (by decide))
        · subst b8
          rw [b9] at e7
          refine w_thr (a_cv0 rfl rfl rfl (stR_T st4) rfl rfl) (e7) rfl ?_
          rw [if_neg (fun g => g.elim b1 fun g => g.elim b4 b7)]
          exact errQ_now r4' st4 (by omega)
