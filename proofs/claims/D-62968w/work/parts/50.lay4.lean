/-! Duties.lay: copies; lay whole -/
set_option maxRecDepth 100000
/-- lay, lay behind it, then follow from the first to the second -/
theorem lay_then {z z1 z2 z3 : aSt} {k q L F : Nat} {foA msA foB msB : List Nat} (hm : msA.length = foA.length) (hL : L < 2 ^ foA.length) (G1 : layG z k foA msA q z1) (G2 : layG z1 (k + foA.length) foB msB q z2) (b2 : frI (fun b => b = 107) z2 z3)
    (b3 : ∀ i, gI z3 107 i = if i < k + foA.length + foB.length ∧ (L * 2 ^ k).testBit i = true then gI z2 107 i ||| nI (F * 2 ^ (k + foA.length)) else gI z2 107 i) : layG z k (folL L (F * 2 ^ foA.length) foA ++ shL foA.length foB) (msA ++ msB) q z3 := by
  have hmul : F * 2 ^ (k + foA.length) = F * 2 ^ foA.length * 2 ^ k := by rw [Nat.mul_assoc, ← Nat.pow_add, Nat.add_comm foA.length k]
  have hl : (folL L (F * 2 ^ foA.length) foA ++ shL foA.length foB).length = foA.length + foB.length := by rw [List.length_append, folL_len, shL_len]
  rw [hmul] at b3
  obtain ⟨a1, a2, a3, a4, a5, a6, a7⟩ := G1
  obtain ⟨c1, c2, c3, c4, c5, c6, c7⟩ := G2
  have s1 : seqAt z3 k (folL L (F * 2 ^ foA.length) foA) msA q := seq_fol (seq_eq a4 fun i hi => c3 (k + i) (by omega)) b2 (by omega) b3
  have s2 : seqAt z3 (k + (folL L (F * 2 ^ foA.length) foA).length) foB msB q := by
    rw [folL_len]
    exact seq_eq c4 fun i hi => fol_new hL b2 b3 _ (by omega)
  have s3 := seq_app s1 s2 (by rw [folL_len]; exact hm)
  rw [folL_len] at s3
  refine ⟨by rw [hl]; omega, ?_, fun i hi => ((fol_old b2 b3 i hi).trans (c3 i (by omega))).trans (a3 i hi), s3, frD_trans (frD_trans a5 c5) (frD_fol b2), (b2.2.2.2.1.trans c6).trans a6, (b2.2.2.2.2.1.trans c7).trans a7⟩
  rw [hl, b2.2.2.2.2.2 104 (by decide), c2, Nat.add_assoc]
theorem x_layR1 {d s q k x a b : Nat} {z : aSt} {A : SQ} {PA : aSt → Nat → Prop} (wA : sqW A) (stA : stays PA) (hA : layS (d + 2) PA A) (hs : okQ z s) (h1 : gR z s 1 = some x) (ha : gI z s 4 = nI a) (hb : gI z s 5 = nI b) (hab : 1 ≤ a ∧ a ≤ b ∧ b ≤ 9) (pA : PA z x) (hD : dutT z) (h9 : k ≤ 9) (hq : okQ z q) (h9A : k + (sfo A).length ≤ 9) : ∀ (n j : Nat) (z1 : aSt) (v7 : Option Value), j + n + 1 = b → layG z k (sqCo A a j).2.2.1 (sqCo A a j).2.2.2 q z1 →
    wR (aEx (d + 2)) aM_X3_lay (layQ z k (sqTi A a b) q) 216 [some (.ref 104), some (.ref s), some (.ref q), some (.int (nI (sFi A * 2 ^ k + 512 * (sLa A * 2 ^ k)))), some (.int (nI ((sqCo A a j).1 * 2 ^ k))), some (.int (nI ((sqCo A a j).2.1 * 2 ^ k))), some (.int (nI (j + 2))), v7] [] z1 := by
  intro n
  have lA1 := m512 wA.1 h9A
  have lA2 := m512 wA.2.1 h9A
  induction n with
  | zero =>
    intro j z1 v7 hj G1
    have f1 := G1.2.2.2.2.1
    obtain ⟨t1, t2⟩ := frD_prt hs f1
    have w1 := sqCo_w wA a j
    have l2 := m512 w1.2.1 G1.1
    refine w_nx (pc' := 218) rfl ?_
    refine w_nx (pc' := 219) rfl ?_
    refine w_getI rfl rfl (t1) rfl rfl ?_
    refine w_top (((t2 5).1.trans hb)) ?_
    refine w_ncgt rfl rfl rfl (rfl) (rfl) (by omega) (by omega) (fun hc => ?_) (fun hc => ?_)
    · have ev : nI ((sqCo A a j).2.1 * 2 ^ k) <<< (nI 9 &&& 31) = nI (512 * ((sqCo A a j).2.1 * 2 ^ k)) := by
        rw [nI_shl (by decide) (by omega), Nat.mul_comm 512]
      refine w_nx (pc' := 282) rfl ?_
      refine w_nx (pc' := 285) (S' := .int (nI 511) :: _) rfl ?_
      refine w_nx (pc' := 286) rfl ?_
      refine w_top (pk_lo lA1) ?_
      refine w_nx (pc' := 288) rfl ?_
      refine w_nx (pc' := 290) (S' := .int (nI 9) :: _) rfl ?_
      refine w_nx (pc' := 291) rfl ?_
      refine w_top (ev) ?_
      have ev2 : nI (sFi A * 2 ^ k) ||| nI (512 * ((sqCo A a j).2.1 * 2 ^ k)) = nI (sFi (sqTi A a b) * 2 ^ k + 512 * (sLa (sqTi A a b) * 2 ^ k)) := by
        rw [nI_or, or_add lA1]
        show _ = nI (sFi A * 2 ^ k + 512 * ((sqCo A a (b - 1)).2.1 * 2 ^ k))
        rw [show b - 1 = j by omega]
      refine w_nx (pc' := 292) rfl ?_
      refine w_top ev2 ?_
      refine w_fin rfl (.inl ⟨?_, rfl⟩)
      show layG z k (sqCo A a (b - 1)).2.2.1 (sqCo A a (b - 1)).2.2.2 q z1
      rw [show b - 1 = j by omega]
      exact G1
    · omega
  | succ n ih =>
    intro j z1 v7 hj G1
    have f1 := G1.2.2.2.2.1
    obtain ⟨t1, t2⟩ := frD_prt hs f1
    have w1 := sqCo_w wA a j
    have l1 := m512 w1.1 G1.1
    have lj := sqCo_len A a j
    have lb : (sfo (sqTi A a b)).length = b * (sfo A).length := by
      show (sqCo A a (b - 1)).2.2.1.length = _
      rw [sqCo_len, show b - 1 + 1 = b by omega]
    refine w_nx (pc' := 218) rfl ?_
    refine w_nx (pc' := 219) rfl ?_
    refine w_getI rfl rfl (t1) rfl rfl ?_
    refine w_top (((t2 5).1.trans hb)) ?_
    refine w_ncgt rfl rfl rfl (rfl) (rfl) (by omega) (by omega) (fun hc => ?_) (fun hc => ?_)
    · omega
    · refine w_nx (pc' := 226) rfl ?_
      refine w_nx (pc' := 227) rfl ?_
      refine w_getR rfl rfl (t1) (congrArg va_rf ((t2 1).2.trans h1)) rfl ?_
      refine w_nx (pc' := 231) rfl ?_
      obtain ⟨o, z2, e2, g | g⟩ := hA x q (k + (sqCo A a j).2.2.1.length) z1 (stA _ _ _ f1 pA) (dutT_fr hD f1) G1.2.1 G1.1 (okQ_fr hq f1.1)
      · obtain ⟨G2, q2⟩ := g
        subst q2
        refine w_cal (pc' := 234) rfl (rfl) (e2) ?_
        have h9'' : k + (sqCo A a j).2.2.1.length + (sfo A).length ≤ 9 := G2.1
        have lB1 := m512 wA.1 h9''
        have lB2 := m512 wA.2.1 h9''
        have f2 := frD_trans f1 G2.2.2.2.2.1
        have hD2 := dutT_fr hD f2
        have hT2 : (gT z2 104).1 = 3 := by rw [hD2.1]
        refine w_nx (pc' := 236) rfl ?_
        refine w_nx (pc' := 237) rfl ?_
        refine w_nx (pc' := 239) rfl ?_
        refine w_nx (pc' := 241) rfl ?_
        refine w_nx (pc' := 244) (S' := .int (nI 511) :: _) rfl ?_
        refine w_nx (pc' := 245) rfl ?_
        refine w_top (pk_lo lB1) ?_
        obtain ⟨o, z3, e3, b1, b2, b3⟩ := x_follow (d := d + 1) (fir := sFi A * 2 ^ (k + (sqCo A a j).2.2.1.length)) hD2 G2.2.1 h9'' l1
        subst b1
        refine w_cal (pc' := 248) rfl (a_cv0 rfl rfl rfl (hT2) rfl rfl) (e3) ?_
        have G3 := lay_then w1.2.2.2 w1.1 G1 G2 b2 b3
        obtain ⟨t3, t4⟩ := frD_prt hs (frD_trans f2 (frD_fol b2))
        have em : sLa A * 2 ^ (k + (sqCo A a j).2.2.1.length) = sLa A * 2 ^ (sqCo A a j).2.2.1.length * 2 ^ k := by rw [Nat.mul_assoc, ← Nat.pow_add, Nat.add_comm k]
        have ap : a ≤ 9 := by omega
        refine w_nx (pc' := 250) rfl ?_
        refine w_nx (pc' := 252) (S' := .int (nI 9) :: _) rfl ?_
        refine w_nx (pc' := 253) rfl ?_
        refine w_top ((pk_hi lB1 lB2).trans (congrArg nI em)) ?_
        refine w_nx (pc' := 255) rfl ?_
        refine w_nx (pc' := 257) rfl ?_
        refine w_nx (pc' := 259) rfl ?_
        refine w_nx (pc' := 260) rfl ?_
        refine w_getI rfl rfl (t3) rfl rfl ?_
        refine w_top (((t4 4).1.trans ha)) ?_
        refine w_nclt rfl rfl rfl (rfl) (rfl) (by omega) (by omega) (fun hd => ?_) (fun hd => ?_)
        · refine w_nx (pc' := 272) (S' := .int (nI 0) :: _) rfl ?_
          have ev : nI ((sqCo A a j).2.1 * 2 ^ k) ||| nI 0 = nI ((sqCo A a (j + 1)).2.1 * 2 ^ k) := by
            rw [nI_or, Nat.or_zero]
            show _ = nI (((sqCo A a j).2.1 ||| (if a ≤ j + 2 then _ else 0)) * 2 ^ k)
            rw [if_neg (by omega), Nat.or_zero]
          refine w_nx (pc' := 273) rfl ?_
          refine w_top ev ?_
          refine w_nx (pc' := 275) rfl ?_
          refine w_iinc rfl rfl (nI_1 _) rfl rfl ?_
          refine w_nx (pc' := 216) rfl ?_
          exact ih (j + 1) z3 _ (by omega) G3
        · refine w_nx (pc' := 268) rfl ?_
          refine w_nx (pc' := 272) rfl ?_
          have ev : nI ((sqCo A a j).2.1 * 2 ^ k) ||| nI (sLa A * 2 ^ (sqCo A a j).2.2.1.length * 2 ^ k) = nI ((sqCo A a (j + 1)).2.1 * 2 ^ k) := by
            rw [nI_or, ← or_mul]
            show _ = nI (((sqCo A a j).2.1 ||| (if a ≤ j + 2 then _ else 0)) * 2 ^ k)
            rw [if_pos (by omega)]
          refine w_nx (pc' := 273) rfl ?_
          refine w_top ev ?_
          refine w_nx (pc' := 275) rfl ?_
          refine w_iinc rfl rfl (nI_1 _) rfl rfl ?_
          refine w_nx (pc' := 216) rfl ?_
          exact ih (j + 1) z3 _ (by omega) G3
      · obtain ⟨x1, x2⟩ := g
        have hx := x2
        obtain ⟨xx, y1, _⟩ := x2
        subst y1
        refine w_thr (rfl) (e2) rfl ?_
        refine .inr ⟨?_, layX_pre f1 G1.2.2.2.2.2.1 G1.2.2.2.2.2.2 hx⟩
        rw [lb]
        rw [lj] at x1
        have h2 : (j + 1 + 1) * (sfo A).length ≤ b * (sfo A).length := Nat.mul_le_mul_right _ (by omega)
        rw [Nat.succ_mul] at h2
        omega
theorem x_layR {d s q k x a b : Nat} {z : aSt} {A : SQ} {PA : aSt → Nat → Prop} (wA : sqW A) (stA : stays PA) (hA : layS (d + 2) PA A) (hs : okQ z s) (h0 : gR z s 0 = some 11) (h1 : gR z s 1 = some x) (ha : gI z s 4 = nI a) (hb : gI z s 5 = nI b) (hab : 1 ≤ a ∧ a ≤ b ∧ b ≤ 9) (pA : PA z x) (hD : dutT z) (hk : gI z 104 0 = nI k) (h9 : k ≤ 9) (hq : okQ z q) : aW (d + 3) 58 [.ref 104, .ref s, .ref q] z (layQ z k (sqTi A a b) q) := by
  have hTs : (gT z s).1 = 10 := by rw [hs.1]
  have lb : (sfo (sqTi A a b)).length = b * (sfo A).length := by
    show (sqCo A a (b - 1)).2.2.1.length = _
    rw [sqCo_len, show b - 1 + 1 = b by omega]
  refine w_of (k := 58) (m := aM_X3_lay) rfl rfl ?_
  refine w_nx (pc' := 1) rfl ?_
  refine w_getR rfl rfl (hTs) (congrArg va_rf (h0)) rfl ?_
  refine w_nx (pc' := 7) rfl ?_
  refine w_nx (pc' := 181) rfl ?_
  refine w_nx (pc' := 182) rfl ?_
  refine w_nx (pc' := 183) rfl ?_
  refine w_getR rfl rfl (hTs) (congrArg va_rf (h1)) rfl ?_
  refine w_nx (pc' := 187) rfl ?_
  obtain ⟨o, z1, e1, g | g⟩ := hA x q k z pA hD hk h9 hq
  · obtain ⟨G1, q1⟩ := g
    subst q1
    refine w_cal (pc' := 190) rfl (rfl) (e1) ?_
    have f1 := G1.2.2.2.2.1
    have h9' : k + (sfo A).length ≤ 9 := G1.1
    have lA1 := m512 wA.1 h9'
    have lA2 := m512 wA.2.1 h9'
    obtain ⟨t1, t2⟩ := frD_prt hs f1
    have ap : a ≤ 9 := by omega
    refine w_nx (pc' := 191) rfl ?_
    refine w_nx (pc' := 192) rfl ?_
    refine w_nx (pc' := 194) (S' := .int (nI 9) :: _) rfl ?_
    refine w_nx (pc' := 195) rfl ?_
    refine w_top (pk_hi lA1 lA2) ?_
    refine w_nx (pc' := 197) rfl ?_
    refine w_nx (pc' := 198) rfl ?_
    refine w_getI rfl rfl (t1) rfl rfl ?_
    refine w_top (((t2 4).1.trans ha)) ?_
    refine w_nx (pc' := 202) (S' := .int (nI 1) :: _) rfl ?_
    refine w_ncle rfl rfl rfl (rfl) (rfl) (by omega) (by omega) (fun hc => ?_) (fun hc => ?_)
    · refine w_nx (pc' := 211) rfl ?_
      refine w_nx (pc' := 213) rfl ?_
      refine w_nx (pc' := 214) (S' := .int (nI 2) :: _) rfl ?_
      refine w_nx (pc' := 216) rfl ?_
      refine w_loc (L' := [some (.ref 104), some (.ref s), some (.ref q), some (.int (nI (sFi A * 2 ^ k + 512 * (sLa A * 2 ^ k)))), some (.int (nI ((sqCo A a 0).1 * 2 ^ k))), some (.int (nI ((sqCo A a 0).2.1 * 2 ^ k))), some (.int (nI (0 + 2))), none]) ?_ (x_layR1 wA stA hA hs h1 ha hb hab pA hD h9 hq h9' (b - 1) 0 z1 none (by omega) G1)
      show _ = [_, _, _, _, _, some (Value.int (nI ((if 1 < a then 0 else sLa A) * 2 ^ k))), _, _]
      rw [if_neg (by omega)]
      rfl
    · refine w_nx (pc' := 206) (S' := .int (nI 0) :: _) rfl ?_
      refine w_nx (pc' := 211) rfl ?_
      refine w_nx (pc' := 213) rfl ?_
      refine w_nx (pc' := 214) (S' := .int (nI 2) :: _) rfl ?_
      refine w_nx (pc' := 216) rfl ?_
      refine w_loc (L' := [some (.ref 104), some (.ref s), some (.ref q), some (.int (nI (sFi A * 2 ^ k + 512 * (sLa A * 2 ^ k)))), some (.int (nI ((sqCo A a 0).1 * 2 ^ k))), some (.int (nI ((sqCo A a 0).2.1 * 2 ^ k))), some (.int (nI (0 + 2))), none]) ?_ (x_layR1 wA stA hA hs h1 ha hb hab pA hD h9 hq h9' (b - 1) 0 z1 none (by omega) G1)
      show _ = [_, _, _, _, _, some (Value.int (nI ((if 1 < a then 0 else sLa A) * 2 ^ k))), _, _]
      rw [if_pos hc, Nat.zero_mul]
      rfl
  · obtain ⟨x1, x2⟩ := g
    have hx := x2
    obtain ⟨xx, y1, _⟩ := x2
    subst y1
    refine w_thr (rfl) (e1) rfl ?_
    refine .inr ⟨?_, hx⟩
    rw [lb]
    have h2 : 1 * (sfo A).length ≤ b * (sfo A).length := Nat.mul_le_mul_right _ (by omega)
    omega
theorem stays_rep (T : Tr) : stays (fun z s => repS z T s) := fun _ _ s f h => repS_fr f.1 (fun b hb => by omega) T s h
theorem layS_up {d e : Nat} {P : aSt → Nat → Prop} {r : SQ} (h : layS d P r) (he : d ≤ e) : layS e P r := fun s q k z h1 h2 h3 h4 h5 => (h s q k z h1 h2 h3 h4 h5).le he
theorem x_lay : ∀ (T : Tr) (d : Nat), layS (d + ht T + 2) (fun z s => repS z T s) (sq T)
  | .leaf, _ => fun _ _ _ _ h => False.elim h
  | .inner n a b l r, d => by
    intro s q k z h hD hk h9 hq
    have ihl := layS_up (x_lay l d) (show d + ht l + 2 ≤ d + ht l + ht r + 2 by omega)
    have ihr := layS_up (x_lay r d) (show d + ht r + 2 ≤ d + ht l + ht r + 2 by omega)
    have ed : d + ht (.inner n a b l r) + 2 = d + ht l + ht r + 3 := by
      show d + (ht l + ht r + 1) + 2 = _
      omega
    rw [ed]
    rcases h with ⟨h1, h2, h3, h4⟩ | ⟨h1, h2, h3, ⟨x, h4, h5⟩, ⟨y, h6, h7⟩⟩ | ⟨h1, h2, h3, ⟨x, h4, h5⟩, ⟨y, h6, h7⟩⟩ | ⟨h1, h2, h3, ⟨x, h4, h5⟩, h6, h7, h8⟩ | ⟨h1, h2, h3, ⟨x, h4, h5⟩⟩ | ⟨h1, h2⟩
    · subst h1
      exact (x_layP (d := d + ht l + ht r + 1) h2 h3 h4 hD hk h9 hq)
    · subst h1
      exact x_layT (d := d + ht l + ht r) (sqW_sq l) (sqW_sq r) (stays_rep l) (stays_rep r) ihl ihr h2 h3 h4 h6 h5 h7 hD hk h9 hq
    · subst h1
      exact x_layO (d := d + ht l + ht r) (sqW_sq l) (sqW_sq r) (stays_rep r) ihl ihr h2 h3 h4 h6 h5 h7 hD hk h9 hq
    · subst h1
      exact x_layR (d := d + ht l + ht r) (sqW_sq l) (stays_rep l) ihl h2 h3 h4 h6 h7 h8 h5 hD hk h9 hq
    · subst h1
      exact x_layM (d := d + ht l + ht r) (sqW_sq l) ihl h2 h3 h4 h5 hD hk h9 hq
    · have e : sq (.inner n a b l r) = sq l := by rcases h1 with h1 | h1 <;> subst h1 <;> rfl
      rw [e]
      exact (ihl s q k z h2 hD hk h9 hq).up
