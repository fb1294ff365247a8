/-! Reader.property, Reader.whole: the end -/
set_option maxRecDepth 100000
theorem x_propD {d dep f a n e c ch : Nat} {tx ps : List Nat} {z : aSt} (hd : dep ≤ 12) (hB : ∀ (a : Nat) (z : aSt), rdr z tx a → aW (d + 14) 41 [.ref 101, .int (nI dep), .int (nI 0)] z (boolQ tx (f + 1) a z)) (st : stR z tx a n ps e c) (hn : n ≤ a) (hch : tx.getD a 0 = ch) (v3 v4 v5 : Option Value) : wR (aEx (d + 14)) aM_X2_property (prQ rpN tx a n ps e c (match lit ch with
      | some v => .inr (.inner 0 0 0 (.inner 20 v 0 .leaf .leaf) .leaf, a + 1)
      | none => if ch = 33 then bindP (pB tx f (a + 1)) fun t b => .inr (.inner 0 0 0 (.inner 21 0 0 t .leaf) .leaf, b) else .inl a) z) 275 [some (.ref 101), some (.int (nI dep)), some (.int (nI ch)), v3, v4, v5] [] z := by
  have hT := stR_T st
  have h40 := stR_40 st
  have hcl : ch < 128 := by rw [← hch]; exact tx_lt st.1.2.2.2.2.2.2.1 a
  refine w_nx (pc' := 276) rfl ?_
  obtain ⟨o, z3, e3, ps3, e3', c3, st3, s2, r3⟩ := x_freshR (d := d + 7) st (by omega)
  subst s2
  refine w_cal (pc' := 279) rfl (a_cv0 rfl rfl rfl (hT) rfl rfl) (e3) ?_
  have ho := stR_ok st3 (Nat.lt_succ_self n)
  have fin : ∀ (t : Tr) (b : Nat), a + 1 ≤ b → b ≤ tx.length → wR (aEx (d + 14)) aM_X2_property (prQ rpN tx a n ps e c (.inr (.inner 0 0 0 t .leaf, b)) z) 295 [some (.ref 101), some (.int (nI dep)), some (.int (nI ch)), v3, v4, v5] [.int (nI (bm t)), .ref (ps3.getD n 0)] (sI z3 101 2 (nI b)) := by
    intro t b h1 h2
    have st4 := stR_at st3 h2
    have ho4 : okQ (sI z3 101 2 (nI b)) (ps3.getD n 0) := ho
    obtain ⟨o, z4, e4, k1, k2⟩ := x_beT (d := d + 12) (t := bm t) (okQ_T ho4) (okQ_g ho4)
    subst k1
    rw [k2] at e4
    refine w_cal (pc' := 298) rfl (a_cv0 rfl rfl rfl (okQ_T ho4) rfl rfl) (e4) ?_
    have hbR := be_R (z := sI z3 101 2 (nI b)) (p := ps3.getD n 0) (k := 0) (l := none) (r := none)
    obtain ⟨w1, w2, w3, w4⟩ := wr_fin (j := n) st4 (rR_trans r3 rR_at) (Nat.le_refl _) (Nat.lt_succ_self _) (wr1_sI (k := 3) (v := nI (bm t)) (wr1_be (z := sI z3 101 2 (nI b)) (p := ps3.getD n 0) (k := 0) (l := none) (r := none)))
    refine w_fin rfl ⟨_, n + 1, _, _, ps3, rfl, w1, w2, (by show n + 1 + a ≤ n + b; omega), ⟨w3, hbR.1, .inl ⟨rfl, gI_same ..⟩⟩, ?_⟩
    exact List.nodup_cons.mpr ⟨fun g => (by cases g), List.nodup_nil⟩
  by_cases hc : ch = 33
  · subst hc
    show wR _ _ (prQ rpN tx a n ps e c (bindP (pB tx f (a + 1)) fun t b => .inr (.inner 0 0 0 (.inner 21 0 0 t .leaf) .leaf, b)) z) _ _ _ _
    have hp : pB tx (f + 1) a = bindP (pB tx f (a + 1)) fun t b => .inr (.inner 21 0 0 t .leaf, b) := by
      show (match lit (tx.getD a 0) with | some v => _ | none => _) = _
      rw [hch]
      rfl
    have hpp : (bindP (pB tx f (a + 1)) fun t b => .inr (.inner 0 0 0 (.inner 21 0 0 t .leaf) .leaf, b)) = bindP (pB tx (f + 1) a) fun t b => .inr (.inner 0 0 0 t .leaf, b) := by
      rw [hp]
      cases pB tx f (a + 1) <;> rfl
    rw [hpp]
    refine w_nx (pc' := 280) rfl ?_
    refine w_nx (pc' := 281) rfl ?_
    refine w_nx (pc' := 282) rfl ?_
    refine w_nx (pc' := 284) (S' := .int (nI 33) :: _) rfl ?_
    refine w_nceq rfl rfl rfl rfl rfl (by decide) (by decide) (fun _ => ?_) (fun g => absurd rfl g)
    refine w_nx (pc' := 292) (S' := .int (nI 0) :: _) rfl ?_
    have hrg := rng_B tx (f + 1) a st.2.1
    obtain ⟨o, z2, e2, ⟨t, b, b1, b2, b3, b4⟩ | ⟨x, b1, b2, b3⟩⟩ := hB a z3 st3.1
    · subst b3
      rw [b4] at e2
      rw [b1] at hrg
      refine w_cal (pc' := 295) rfl (rfl) (e2) ?_
      rw [b1]
      exact fin t b hrg.1 hrg.2
    · subst b2
      rw [b3] at e2
      rw [b1] at hrg
      refine w_thr (rfl) (e2) rfl ?_
      rw [b1]
      exact errQ_now (rR_trans r3 rR_at) (stR_at st3 hrg.2) (by omega)
  · refine w_nx (pc' := 280) rfl ?_
    refine w_nx (pc' := 281) rfl ?_
    refine w_nx (pc' := 282) rfl ?_
    refine w_nx (pc' := 284) (S' := .int (nI 33) :: _) rfl ?_
    refine w_nceq rfl rfl rfl rfl rfl (by omega) (by decide) (fun g => absurd g hc) (fun _ => ?_)
    refine w_nx (pc' := 288) (S' := .int (nI 1) :: _) rfl ?_
    refine w_nx (pc' := 292) rfl ?_
    obtain ⟨o, z2, e2, ⟨v, b1, b3, b4⟩ | ⟨b1, b2, b3⟩⟩ := x_bools (d := d + 9) hd st3.1 (by rw [hch]; exact hc)
    · subst b3
      rw [b4] at e2
      rw [hch] at b1
      refine w_cal (pc' := 295) rfl (rfl) (e2) ?_
      rw [b1]
      exact fin _ (a + 1) (Nat.le_refl _) (tx_le hch (lit_ne b1))
    · subst b2
      rw [b3] at e2
      rw [hch] at b1
      refine w_thr (rfl) (e2) rfl ?_
      rw [b1]
      show prQ rpN tx a n ps e c (if ch = 33 then _ else .inl a) z _ _
      rw [if_neg hc]
      exact errQ_now r3 st3 (by omega)
theorem x_prop0 {d a n e c : Nat} {tx ps : List Nat} {z : aSt} (st : stR z tx a n ps e c) (hn : n ≤ 41) : aW (d + 2) 33 [.ref 101, .int (nI 13)] z (prQ rpN tx a n ps e c (pPr tx 0 a) z) := by
  refine w_of (k := 33) (m := aM_X2_property) rfl rfl ?_
  refine w_nx (pc' := 1) rfl ?_
  refine w_nx (pc' := 3) (S' := .int (nI 12) :: _) rfl ?_
  refine w_ncgt rfl rfl rfl (rfl) (rfl) (by omega) (by omega) (fun hb => ?_) (fun hb => ?_)
  · refine w_nx (pc' := 11) (S' := .int (nI 0) :: _) rfl ?_
    obtain ⟨o, z1, e1, q1, q2⟩ := x_need0 (d := d) (z := z)
    subst q1
    rw [q2] at e1
    refine w_thr (rfl) (e1) rfl ?_
    exact errQ_now (rR_refl (Nat.le_refl _)) st hn
  · omega
theorem x_prop1 {d dep f a n e c : Nat} {tx ps : List Nat} {z : aSt} (hd : dep ≤ 12) (ihP : propS tx (d + 14) f (dep + 1)) (ihS : seqS tx (d + 14) f (dep + 1)) (hB : ∀ (a : Nat) (z : aSt), rdr z tx a → aW (d + 14) 41 [.ref 101, .int (nI dep), .int (nI 0)] z (boolQ tx (f + 1) a z)) (st : stR z tx a n ps e c) (hn : n ≤ a) : aW (d + 15) 33 [.ref 101, .int (nI dep)] z (prQ rpN tx a n ps e c (pPr tx (f + 1) a) z) := by
  have hT := stR_T st
  refine w_of (k := 33) (m := aM_X2_property) rfl rfl ?_
  refine w_nx (pc' := 1) rfl ?_
  refine w_nx (pc' := 3) (S' := .int (nI 12) :: _) rfl ?_
  refine w_ncgt rfl rfl rfl (rfl) (rfl) (by omega) (by omega) (fun hb => ?_) (fun hb => ?_)
  · omega
  · refine w_nx (pc' := 7) (S' := .int (nI 1) :: _) rfl ?_
    refine w_nx (pc' := 11) rfl ?_
    obtain ⟨o, z1, e1, q1, q2⟩ := x_need1 (d := d + 13) (z := z)
    subst q1
    rw [q2] at e1
    refine w_cal (pc' := 14) rfl (rfl) (e1) ?_
    refine w_nx (pc' := 15) rfl ?_
    obtain ⟨o, z1, e1, q1, q2⟩ := x_here (d := d + 13) st.1
    subst q1
    rw [q2] at e1
    refine w_cal (pc' := 18) rfl (a_cv0 rfl rfl rfl (hT) rfl rfl) (e1) ?_
    unfold pPr
    have hcl := tx_lt st.1.2.2.2.2.2.2.1 a
    generalize hch : tx.getD a 0 = ch at hcl ⊢
    refine w_nx (pc' := 19) rfl ?_
    refine w_nx (pc' := 20) rfl ?_
    by_cases h1 : ch = 71
    · subst h1
      rw [if_pos rfl]
      refine w_lsw (t := 64) rfl rfl rfl rfl ?_
      exact x_propU ihP st hn hch (.inl ⟨rfl, rfl⟩) _ _ _
    rw [if_neg h1]
    by_cases h2 : ch = 88
    · subst h2
      rw [if_pos rfl]
      refine w_lsw (t := 64) rfl rfl rfl rfl ?_
      exact x_propU ihP st hn hch (.inr ⟨rfl, rfl⟩) _ _ _
    rw [if_neg h2]
    by_cases h3 : ch = 123
    · subst h3
      rw [if_pos rfl]
      refine w_lsw (t := 107) rfl rfl rfl rfl ?_
      exact x_propS ihP ihS st hn hch _ _ _
    rw [if_neg h3]
    by_cases h4 : ch = 40
    · subst h4
      rw [if_pos rfl]
      refine w_lsw (t := 180) rfl rfl rfl rfl ?_
      exact x_propB ihP st hn hch _ _ _
    rw [if_neg h4]
    refine w_lsw (t := 275) rfl rfl (pr_off ch hcl h4 h1 h2 h3) rfl ?_
    exact x_propD hd hB st hn hch _ _ _
theorem x_prop {tx : List Nat} : ∀ (f dep d : Nat), dep + f = 13 → propS tx (d + 2 * f + 13) f dep
  | 0, dep, d, hd => by
    intro a n ps e c z st hn
    have e : dep = 13 := by omega
    have h40 := stR_40 st
    subst e
    exact x_prop0 (d := d + 11) st (by omega)
  | f + 1, dep, d, hd => by
    intro a n ps e c z st hn
    refine x_prop1 (d := d + 2 * f) (by omega) ?_ ?_ (fun a z hr => ?_) st hn
    · have h := x_prop (tx := tx) f (dep + 1) (d + 1) (by omega)
      rw [show d + 1 + 2 * f + 13 = d + 2 * f + 14 by omega] at h
      exact h
    · intro a n ps e c z st hn
      have h := x_seq f (dep + 1) (d + 2) a n ps e c z (by omega) st hn
      rw [show d + 2 + 2 * f + 12 = d + 2 * f + 14 by omega] at h
      exact h
    · have h := x_bool (f + 1) dep (d + f + 9) a z (by omega) hr
      rw [show d + f + 9 + (f + 1) + 4 = d + 2 * f + 14 by omega] at h
      exact h
/-- the Reader between calls: it may stand anywhere -/
def stW (z : aSt) (tx : List Nat) (a n : Nat) (ps : List Nat) (e c : Nat) : Prop := rdr z tx a ∧ a ≤ 1000 ∧ pq z n ps e c ∧ 368 ≤ gZ z
theorem stW_of {z : aSt} {tx : List Nat} {a n e c : Nat} {ps : List Nat} (h : stR z tx a n ps e c) : stW z tx a n ps e c := ⟨h.1, h.1.2.2.2.2.2.2.2.2, h.2.2⟩
theorem stW_T {z : aSt} {tx : List Nat} {a n e c : Nat} {ps : List Nat} (h : stW z tx a n ps e c) : (gT z 101).1 = 1 := by rw [h.1.1]
theorem stW_at {z : aSt} {tx : List Nat} {a n e c b : Nat} {ps : List Nat} (h : stW z tx a n ps e c) (hb : b ≤ tx.length) : stR (sI z 101 2 (nI b)) tx b n ps e c := by
  obtain ⟨h1, h2, ⟨p1, p2, p3, p4, p5, p6⟩, h4⟩ := h
  have h40 := h1.2.2.2.2.1
  have he : e ≠ 101 := fun g => by rw [← g, p1.2.2.2.2.2.1] at p2; cases p2
  exact ⟨rdr_at h1 (by omega), hb, ⟨isAL_fr (F := fun b => b = 101) p1 (fr_sI fun _ => rfl) (by decide) (fun g => he g), p2, p3, p4, (gI_nk (by decide)).trans p5, p6⟩, h4⟩
theorem x_whole {d a n e c : Nat} {tx ps : List Nat} {z : aSt} (st : stW z tx a n ps e c) : aW (d + 40) 32 [.ref 101] z (prQ rpN tx 0 0 ps e c (pW tx) z) := by
  have hT := stW_T st
  have h41 := st.1.2.2.2.2.1
  refine w_of (k := 32) (m := aM_X2_whole) rfl rfl ?_
  refine w_nx (pc' := 1) rfl ?_
  refine w_nx (pc' := 2) (S' := .int (nI 0) :: _) rfl ?_
  refine w_put rfl rfl (hT) (by omega) rfl rfl rfl ?_
  refine w_nx (pc' := 6) rfl ?_
  refine w_nx (pc' := 7) (S' := .int (nI 0) :: _) rfl ?_
  refine w_put rfl rfl (hT) (by omega) rfl rfl rfl ?_
  refine w_nx (pc' := 11) rfl ?_
  refine w_nx (pc' := 12) (S' := .int (nI 0) :: _) rfl ?_
  have st0 := stW_at st (Nat.zero_le _)
  have st1 : stR (sI (sI z 101 2 (nI 0)) 101 4 (nI 0)) tx 0 0 ps e c := by
    obtain ⟨⟨r1, r2, r3, r4, r5, r6, r7, r8, r9⟩, h2, ⟨p1, p2, p3, p4, p5, p6, p7⟩, h4⟩ := st0
    have he : e ≠ 101 := fun g => by have p6' := p1.2.2.2.2.2.1; rw [g, p2] at p6'; cases p6'
    exact ⟨⟨r1, r2, r3, (gI_nk (by decide)).trans r4, r5, fun i hi => (gI_ne (by decide)).trans (r6 i hi), r7, (gI_nk (by decide)).trans r8, r9⟩, h2, ⟨isAL_fr (F := fun b => b = 101) p1 (fr_sI fun _ => rfl) (by decide) (fun g => he g), p2, p3, p4, gI_same .., Nat.zero_le _, p7⟩, h4⟩
  have r1 : rR 0 z ps e c (sI (sI z 101 2 (nI 0)) 101 4 (nI 0)) 0 ps e c := ⟨Nat.le_refl _, fr_trans (fr_sI fun _ => .inl rfl) (fr_sI fun _ => .inl rfl), fun _ => rfl, fun k hk hk' => (gI_nk hk').trans (gI_nk hk), ⟨[], (List.append_nil ps).symm, fun r hr => (by cases hr)⟩, .inl rfl, Nat.le_max_left .., Nat.le_refl _, Nat.le_refl _⟩
  generalize sI (sI z 101 2 (nI 0)) 101 4 (nI 0) = z1 at st1 r1 ⊢
  obtain ⟨o, z4, e4, q4⟩ := x_prop 13 0 d (by decide) 0 0 ps e c z1 st1 (Nat.le_refl _)
  unfold pW
  cases hS : pPr tx 13 0 with
  | inl x =>
    rw [hS] at q4
    have q5 := errQ_pre r1 q4
    obtain ⟨z9, n9, e9, c9, ps9, y1, y2, y3, y4, y5⟩ := q4
    subst y2
    refine w_thr (rfl) (e4) rfl ?_
    exact q5
  | inr w =>
    obtain ⟨T, b⟩ := w
    rw [hS] at q4
    obtain ⟨s4, n4, e4', c4, ps4, y1, st4, r4, hm4, hR⟩ := q4
    subst y1
    have h40 := stR_40 st4
    have hm4' : n4 + 0 ≤ 0 + b := hm4
    refine w_cal (pc' := 15) rfl (rfl) (e4) ?_
    show wR _ _ (prQ rpN tx 0 0 ps e c (if b = tx.length then .inr (T, b) else .inl b) z) _ _ _ _
    refine w_nx (pc' := 16) rfl ?_
    refine w_nx (pc' := 17) rfl ?_
    refine w_getI rfl rfl ((stR_T st4)) rfl rfl ?_
    refine w_top (st4.1.2.2.2.2.2.2.2.1) ?_
    refine w_nx (pc' := 21) rfl ?_
    refine w_getI rfl rfl ((stR_T st4)) rfl rfl ?_
    refine w_top (st4.1.2.2.2.1) ?_
    refine w_ncne rfl rfl rfl (rfl) (rfl) (by omega) (by omega) (fun hb => ?_) (fun hb => ?_)
    · rw [if_neg hb]
      refine w_nx (pc' := 32) (S' := .int (nI 0) :: _) rfl ?_
      obtain ⟨o, z5, e5, q1, q2⟩ := x_need0 (d := d + 38) (z := z4)
      subst q1
      rw [q2] at e5
      refine w_thr (rfl) (e5) rfl ?_
      exact errQ_now (rR_trans r1 r4) st4 (by omega)
    · rw [if_pos hb]
      refine w_nx (pc' := 28) (S' := .int (nI 1) :: _) rfl ?_
      refine w_nx (pc' := 32) rfl ?_
      obtain ⟨o, z5, e5, q1, q2⟩ := x_need1 (d := d + 38) (z := z4)
      subst q1
      rw [q2] at e5
      refine w_cal (pc' := 35) rfl (rfl) (e5) ?_
      refine w_nx (pc' := 36) rfl ?_
      exact w_fin rfl ⟨s4, n4, _, _, ps4, rfl, st4, rR_trans r1 r4, hm4, hR⟩
