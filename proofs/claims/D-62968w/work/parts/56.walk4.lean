/-! Duties.walk, whole -/
set_option maxRecDepth 100000
theorem walkS_up {d e : Nat} {T : Tr} (h : walkS d T) (he : d ≤ e) : walkS e T := fun p due k z h1 h2 h3 h4 h5 h6 => (h p due k z h1 h2 h3 h4 h5 h6).le he
theorem x_walk : ∀ (T : Tr) (d : Nat), walkS (d + ht T + 2) T
  | .leaf, _ => fun _ _ _ _ h => False.elim h
  | .inner n a b l r, d => by
    intro p due k z hrep hnd hD hB hk h9
    have ihl := walkS_up (x_walk l d) (show d + ht l + 2 ≤ d + ht l + ht r + 2 by omega)
    have ihr := walkS_up (x_walk r d) (show d + ht r + 2 ≤ d + ht l + ht r + 2 by omega)
    have hlay := layS_up (x_lay l d) (show d + ht l + 2 ≤ d + ht l + ht r + 2 by omega)
    have ed : d + ht (.inner n a b l r) + 2 = d + ht l + ht r + 1 + 2 := by
      show d + (ht l + ht r + 1) + 2 = _
      omega
    rw [ed]
    have hrep0 := hrep
    obtain ⟨hp, h0, h⟩ := hrep
    have hn : n < 13 := by rcases h with h | h | h | h <;> omega
    have hp4 := hp.2.2
    refine x_walkA hp h0 hn hD hk h9 (fun z2 c1 c2 c3 c4 c5 c6 c7 => ?_) (fun ho hk9 => ?_)
    · have Bg : begun z n p due k z2 := ⟨c1, c2, c3, c4, c5, c6, c7⟩
      have s2 := c4.2.2.2.1
      have o2 := s2 p hp
      have hT2 : (gT z2 p).1 = 10 := by rw [o2.1.1]
      have hD2 := dutT_frW hD c4
      have hB2 := bhd_fr hB c4
      rcases h with ⟨h1, h4⟩ | ⟨h1, h4, h5⟩ | ⟨h1, h4, h5, h6, h7⟩ | ⟨h1, h4, h5, h6, h7⟩
      · subst h1
        refine w_nx (pc' := 34) rfl ?_
        refine w_getR rfl rfl (hT2) (congrArg va_rf ((o2.2.1 0).trans h0)) rfl ?_
        refine w_nx (pc' := 40) rfl ?_
        refine w_nx (pc' := 76) rfl ?_
        refine w_nx (pc' := 230) rfl ?_
        exact w_fin rfl (lem_0 Bg)
      · have hl2 := repP_shp s2 l _ h5
        have nd2 : (pts z2 l (vR z p 1)).Nodup := by
          rw [pts_shp s2 l _ h5]
          rw [pts_u h1] at hnd
          exact (List.nodup_cons.mp hnd).2
        have call := ihl (vR z p 1) (n == 2) (k + owns due n) z2 hl2 nd2 hD2 hB2 c2 c7
        rcases h1 with h1 | h1
        · subst h1
          refine w_nx (pc' := 34) rfl ?_
          refine w_getR rfl rfl (hT2) (congrArg va_rf ((o2.2.1 0).trans h0)) rfl ?_
          refine w_nx (pc' := 40) rfl ?_
          refine w_nx (pc' := 79) rfl ?_
          refine w_nx (pc' := 80) rfl ?_
          refine w_nx (pc' := 81) rfl ?_
          refine w_getR rfl rfl (hT2) (congrArg va_rf ((o2.2.1 1).trans h4)) rfl ?_
          refine w_nx (pc' := 85) (S' := .int (nI 0) :: _) rfl ?_
          obtain ⟨o, z3, e3, q⟩ := call
          have fin := lem_u (a := a) (b := b) (r := r) (.inl rfl) hp h5 hnd Bg q
          rcases q with q | q
          · obtain ⟨q1, q2, _⟩ := q
            subst q2
            refine w_cal (pc' := 88) rfl (rfl) (e3) ?_
            refine w_nx (pc' := 230) rfl ?_
            exact w_fin rfl (fin)
          · obtain ⟨q1, x, q2, _⟩ := q
            subst q2
            refine w_thr (rfl) (e3) rfl ?_
            exact fin
        · subst h1
          refine w_nx (pc' := 34) rfl ?_
          refine w_getR rfl rfl (hT2) (congrArg va_rf ((o2.2.1 0).trans h0)) rfl ?_
          refine w_nx (pc' := 40) rfl ?_
          refine w_nx (pc' := 91) rfl ?_
          refine w_nx (pc' := 92) rfl ?_
          refine w_nx (pc' := 93) rfl ?_
          refine w_getR rfl rfl (hT2) (congrArg va_rf ((o2.2.1 1).trans h4)) rfl ?_
          refine w_nx (pc' := 97) (S' := .int (nI 1) :: _) rfl ?_
          obtain ⟨o, z3, e3, q⟩ := call
          have fin := lem_u (a := a) (b := b) (r := r) (.inr rfl) hp h5 hnd Bg q
          rcases q with q | q
          · obtain ⟨q1, q2, _⟩ := q
            subst q2
            refine w_cal (pc' := 100) rfl (rfl) (e3) ?_
            refine w_nx (pc' := 230) rfl ?_
            exact w_fin rfl (fin)
          · obtain ⟨q1, x, q2, _⟩ := q
            subst q2
            refine w_thr (rfl) (e3) rfl ?_
            exact fin
      · -- a sequence
        have w2 := sqW_sq l
        have step : ∀ {Q : aRes → aSt → Prop}, wR (aEx (d + ht l + ht r + 1 + 1)) aM_X3_walk Q 103 [some (.ref 104), some (.ref p), some (.int (bI due)), none, none] [] z2 → wR (aEx (d + ht l + ht r + 1 + 1)) aM_X3_walk Q 33 [some (.ref 104), some (.ref p), some (.int (bI due)), none, none] [] z2 := by
          intro Q hq
          rcases h1 with h1 | h1
          · subst h1
            refine w_nx (pc' := 34) rfl ?_
            refine w_getR rfl rfl (hT2) (congrArg va_rf ((o2.2.1 0).trans h0)) rfl ?_
            refine w_nx (pc' := 40) rfl ?_
            refine w_nx (pc' := 103) rfl ?_
            exact hq
          · subst h1
            refine w_nx (pc' := 34) rfl ?_
            refine w_getR rfl rfl (hT2) (congrArg va_rf ((o2.2.1 0).trans h0)) rfl ?_
            refine w_nx (pc' := 40) rfl ?_
            refine w_nx (pc' := 103) rfl ?_
            exact hq
        refine step ?_
        refine w_nx (pc' := 104) rfl ?_
        refine w_nx (pc' := 105) rfl ?_
        refine w_getR rfl rfl (hT2) (congrArg va_rf ((o2.2.1 1).trans h4)) rfl ?_
        refine w_nx (pc' := 109) rfl ?_
        obtain ⟨o, z3, e3, g | g⟩ := hlay (vR z p 1) p (k + owns due n) z2 (repS_shp s2 l _ h5) hD2 c2 c7 o2.1
        · obtain ⟨G, q1⟩ := g
          subst q1
          refine w_cal (pc' := 112) rfl (rfl) (e3) ?_
          have f3 := G.2.2.2.2.1
          have o3 := okQ_fr o2.1 f3.1
          have hT3 : (gT z3 p).1 = 10 := by rw [o3.1]
          have l1 := m512 w2.1 G.1
          have l2 := m512 w2.2.1 G.1
          have hD3 := dutT_fr hD2 f3
          refine w_nx (pc' := 113) rfl ?_
          refine w_nx (pc' := 114) rfl ?_
          refine w_nx (pc' := 115) rfl ?_
          refine w_nx (pc' := 118) (S' := .int (nI 511) :: _) rfl ?_
          refine w_nx (pc' := 119) rfl ?_
          refine w_top (pk_lo l1) ?_
          refine w_put rfl rfl (hT3) (by omega) rfl rfl rfl ?_
          refine w_nx (pc' := 123) (S' := .int (nI 0) :: _) rfl ?_
          refine w_nx (pc' := 125) rfl ?_
          have fz4 : frW [p] z2 (sI z3 p 7 (nI (sFi (sq l) * 2 ^ (k + owns due n)))) := frW_trans (frD_W f3) (frW_sI (List.mem_singleton.mpr rfl) hp4 (.inr rfl))
          refine x_walkE (dutT_frW hD2 fz4) ((gI_ne (by omega)).trans G.2.1) G.1 l1 l2 (bhd_fr hB2 fz4) hp4 (fun z5 h5' hE => ?_) (k + owns due n + (sfo (sq l)).length) 0 _ (Nat.zero_add _) (frI_refl _) (fun i => by rw [if_neg (by omega)])
          have f5 : frW [p] z2 z5 := frW_trans fz4 (frD_W ⟨fr_mono h5'.fr fun b _ g => by omega, fun k => by rw [h5'.2.2.1], fun k _ => h5'.2.2.2.2.2 104 (by decide) k, fun i => .inl (by rw [h5'.2.2.1])⟩)
          have s5 := shp_trans s2 f5.2.2.2.1
          have o5 := s5 p hp
          have hT5 : (gT z5 p).1 = 10 := by rw [o5.1.1]
          have nd5 : (pts z5 r (vR z p 2)).Nodup := by
            rw [pts_shp s5 r _ h7]
            rw [pts_s h1] at hnd
            exact (List.nodup_cons.mp hnd).2
          have m5 : gI z5 104 0 = nI (k + owns due n + (sfo (sq l)).length) := (h5'.2.2.2.2.2 104 (by decide) 0).trans ((gI_ne (by omega)).trans G.2.1)
          have call := ihr (vR z p 2) (n == 4) (k + owns due n + (sfo (sq l)).length) z5 (repP_shp s5 r _ h7) nd5 (dutT_frW hD2 f5) (bhd_fr hB2 f5) m5 G.1
          have step2 : ∀ {Q : aRes → aSt → Prop} {L}, L = [some (.ref 104), some (.ref p), some (.int (bI due)), some (.int (nI (sFi (sq l) * 2 ^ (k + owns due n) + 512 * (sLa (sq l) * 2 ^ (k + owns due n))))), some (.int (nI (k + owns due n + (sfo (sq l)).length)))] → wR (aEx (d + ht l + ht r + 1 + 1)) aM_X3_walk Q 206 L [.int (bI (n == 4)), .ref (vR z p 2), .ref 104] z5 → wR (aEx (d + ht l + ht r + 1 + 1)) aM_X3_walk Q 186 L [] z5 := by
            intro Q L eL hq
            subst eL
            rcases h1 with h1 | h1
            · subst h1
              refine w_nx (pc' := 187) rfl ?_
              refine w_nx (pc' := 188) rfl ?_
              refine w_getR rfl rfl (hT5) (congrArg va_rf ((o5.2.1 2).trans h6)) rfl ?_
              refine w_nx (pc' := 192) rfl ?_
              refine w_getR rfl rfl (hT5) (congrArg va_rf ((o5.2.1 0).trans h0)) rfl ?_
              refine w_nx (pc' := 198) rfl ?_
              refine w_an (u := some 3) (v := some 4) rfl rfl rfl rfl (fun _ => ?_) (fun h => by cases h)
              refine w_nx (pc' := 206) (S' := .int (nI 0) :: _) rfl ?_
              exact hq
            · subst h1
              refine w_nx (pc' := 187) rfl ?_
              refine w_nx (pc' := 188) rfl ?_
              refine w_getR rfl rfl (hT5) (congrArg va_rf ((o5.2.1 2).trans h6)) rfl ?_
              refine w_nx (pc' := 192) rfl ?_
              refine w_getR rfl rfl (hT5) (congrArg va_rf ((o5.2.1 0).trans h0)) rfl ?_
              refine w_nx (pc' := 198) rfl ?_
              refine w_an (u := some 4) (v := some 4) rfl rfl rfl rfl (fun h => absurd rfl h) (fun _ => ?_)
              refine w_nx (pc' := 202) (S' := .int (nI 1) :: _) rfl ?_
              refine w_nx (pc' := 206) rfl ?_
              exact hq
          refine step2 rfl ?_
          obtain ⟨o, z6, e6, q⟩ := call
          have fin := lem_s (a := a) (b := b) (l := l) h1 hp h7 hnd Bg G h5' hE q
          rcases q with q | q
          · obtain ⟨q1, q2, _⟩ := q
            subst q2
            refine w_cal (pc' := 209) rfl (rfl) (e6) ?_
            refine w_nx (pc' := 230) rfl ?_
            exact w_fin rfl (fin)
          · obtain ⟨q1, x, q2, _⟩ := q
            subst q2
            refine w_thr (rfl) (e6) rfl ?_
            exact fin
        · obtain ⟨x1, x, y1, y2, y3, y4, y5⟩ := g
          subst y1
          refine w_thr (rfl) (e3) rfl ?_
          refine .inr ⟨by rw [wid_s h1]; omega, x, rfl, y2, ?_, by omega, by omega⟩
          rw [pts_s h1]
          exact frW_trans (frW_mono c4 sub_one) (frD_W y3)
      · -- both sides
        have step : ∀ {Q : aRes → aSt → Prop}, wR (aEx (d + ht l + ht r + 1 + 1)) aM_X3_walk Q 212 [some (.ref 104), some (.ref p), some (.int (bI due)), none, none] [] z2 → wR (aEx (d + ht l + ht r + 1 + 1)) aM_X3_walk Q 33 [some (.ref 104), some (.ref p), some (.int (bI due)), none, none] [] z2 := by
          intro Q hq
          rcases h1 with h1 | h1 | h1
          · subst h1
            refine w_nx (pc' := 34) rfl ?_
            refine w_getR rfl rfl (hT2) (congrArg va_rf ((o2.2.1 0).trans h0)) rfl ?_
            refine w_nx (pc' := 40) rfl ?_
            refine w_nx (pc' := 212) rfl ?_
            exact hq
          · subst h1
            refine w_nx (pc' := 34) rfl ?_
            refine w_getR rfl rfl (hT2) (congrArg va_rf ((o2.2.1 0).trans h0)) rfl ?_
            refine w_nx (pc' := 40) rfl ?_
            refine w_nx (pc' := 212) rfl ?_
            exact hq
          · subst h1
            refine w_nx (pc' := 34) rfl ?_
            refine w_getR rfl rfl (hT2) (congrArg va_rf ((o2.2.1 0).trans h0)) rfl ?_
            refine w_nx (pc' := 40) rfl ?_
            refine w_nx (pc' := 212) rfl ?_
            exact hq
        refine step ?_
        have hnd' := hnd
        rw [pts_b h1] at hnd'
        obtain ⟨_, hnd2⟩ := List.nodup_cons.mp hnd'
        obtain ⟨ndl, ndr, _⟩ := List.nodup_append.mp hnd2
        refine w_nx (pc' := 213) rfl ?_
        refine w_nx (pc' := 214) rfl ?_
        refine w_getR rfl rfl (hT2) (congrArg va_rf ((o2.2.1 1).trans h4)) rfl ?_
        refine w_nx (pc' := 218) (S' := .int (nI 0) :: _) rfl ?_
        obtain ⟨o, z3, e3, q⟩ := ihl (vR z p 1) false (k + owns due n) z2 (repP_shp s2 l _ h5) (by rw [pts_shp s2 l _ h5]; exact ndl) hD2 hB2 c2 c7
        rcases q with q | q
        · obtain ⟨q1, q2, q3⟩ := q
          subst q2
          refine w_cal (pc' := 221) rfl (rfl) (e3) ?_
          have f3 := q3.2.2.2.1
          have s3 := shp_trans s2 f3.2.2.2.1
          have o3 := s3 p hp
          have hT3 : (gT z3 p).1 = 10 := by rw [o3.1.1]
          refine w_nx (pc' := 222) rfl ?_
          refine w_nx (pc' := 223) rfl ?_
          refine w_getR rfl rfl (hT3) (congrArg va_rf ((o3.2.1 2).trans h6)) rfl ?_
          refine w_nx (pc' := 227) (S' := .int (nI 0) :: _) rfl ?_
          obtain ⟨o, z4, e4, q⟩ := ihr (vR z p 2) false (k + owns due n + wid l false) z3 (repP_shp s3 r _ h7) (by rw [pts_shp s3 r _ h7]; exact ndr) (dutT_frW hD2 f3) (bhd_fr hB2 f3) q3.1 q1
          have fin := lem_b2 (a := a) (b := b) h1 hp h5 h7 hnd Bg ⟨q1, q3⟩ q
          rcases q with q | q
          · obtain ⟨q1, q2, _⟩ := q
            subst q2
            refine w_cal (pc' := 230) rfl (rfl) (e4) ?_
            exact w_fin rfl (fin)
          · obtain ⟨q1, x, q2, _⟩ := q
            subst q2
            refine w_thr (rfl) (e4) rfl ?_
            exact fin
        · have fin := lem_b1 (a := a) (b := b) (r := r) h1 h5 Bg q
          obtain ⟨q1, x, q2, _⟩ := q
          subst q2
          refine w_thr (rfl) (e3) rfl ?_
          exact fin
    · refine .inr ⟨?_, _, rfl, if_pos rfl, frD_W ⟨fr_new, fun k => by rw [gR_new, if_neg (by have := hD.2.1; omega)], fun k _ => by rw [gI_new, if_neg (by have := hD.2.1; omega)], fun i => .inl (by rw [gR_new, if_neg (by have := hD.2.1; omega)])⟩, rfl, rfl⟩
      unfold wid
      omega
