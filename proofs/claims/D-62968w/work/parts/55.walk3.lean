/-! Duties.walk: below ALWAYS and NEXT -/
set_option maxRecDepth 100000
def begun (z : aSt) (n p : Nat) (due : Bool) (k : Nat) (z2 : aSt) : Prop := (owns due n = 1 → gI z2 p 6 = nI k ∧ gR z2 105 k = some p) ∧ gI z2 104 0 = nI (k + owns due n) ∧ (∀ i, i < k → ent z2 i = ent z i) ∧ frW [p] z z2 ∧ gZ z2 = gZ z ∧ gS z2 = gS z ∧ k + owns due n ≤ 9
theorem ent_105 {z z' : aSt} {i : Nat} (h : ent z' i = ent z i) : gR z' 105 i = gR z 105 i ∧ gR z' 109 i = gR z 109 i ∧ gI z' 108 i = gI z 108 i := by
  unfold ent at h
  simp only [Prod.mk.injEq] at h
  exact ⟨h.2.2.2.2, h.2.2.2.1, h.2.2.1⟩
/-- what stays over a step stays over two -/
theorem kept_pre {ps qs : List Nat} {z z1 z2 : aSt} {i : Nat} (h : ent z1 i = ent z i) (g : kept ps z1 z2 i) (hs : ∀ b, b ∈ ps → b ∈ qs) : kept qs z z2 i := by
  have e := ent_105 h
  refine ⟨g.1.trans e.1, fun h1 ⟨b, h2, h3⟩ h4 => (g.2 (e.1.trans h1) ⟨b, e.2.1.trans h2, fun q => h3 (hs b q)⟩ (by rw [e.2.2]; exact h4)).trans h⟩
theorem frW_off {ps : List Nat} {z z' : aSt} {p : Nat} (f : frW ps z z') (hp : okQ z p) (h : p ∉ ps) : ∀ j, gI z' p j = gI z p j := fun j => (f.1.2.2 p hp.2.1 (fun g => g.elim (fun g => by have := hp.2.2; omega) h) j).1
theorem sub_one {ps : List Nat} {p : Nat} : ∀ q, q ∈ [p] → q ∈ p :: ps := fun q hq => by rw [List.mem_singleton.mp hq]; exact List.mem_cons_self ..
theorem lem_u {z z2 z3 : aSt} {n a b p k : Nat} {l r : Tr} {due : Bool} {o : aRes} (h1 : n = 1 ∨ n = 2) (hp : okQ z p) (hl : repP z l (vR z p 1)) (hnd : (pts z (.inner n a b l r) p).Nodup) (B : begun z n p due k z2) (h : walkQ z2 l (vR z p 1) (n == 2) (k + owns due n) o z3) : walkQ z (.inner n a b l r) p due k o z3 := by
  obtain ⟨b1, b2, b3, b4, b5, b6, b7⟩ := B
  rw [pts_u h1] at hnd
  have hpl := pts_shp b4.2.2.2.1 l _ hl
  obtain ⟨np, _⟩ := List.nodup_cons.mp hnd
  have f0 : frW (pts z (.inner n a b l r) p) z z2 := by rw [pts_u h1]; exact frW_mono b4 sub_one
  unfold walkQ
  rw [wid_u h1]
  have o2 := b4.2.2.2.1 p hp
  rcases h with ⟨g1, g2, g3, g4, g5, g6, g7, g8⟩ | ⟨g1, x, g2, g3, g4, g5, g6⟩
  · rw [hpl] at g4 g6
    refine .inl ⟨by omega, g2, by rw [← Nat.add_assoc]; exact g3, fun i hi => ?_, ?_, frW_trans f0 (by rw [pts_u h1]; exact frW_mono g6 fun q hq => List.mem_cons_of_mem _ hq), by omega, by omega⟩
    · rw [pts_u h1]
      exact kept_pre (b3 i hi) (g4 i (by omega)) fun q hq => List.mem_cons_of_mem _ hq
    · rw [num_u h1, vR_shp g6.2.2.2.1 o2.1 1, vR_shp b4.2.2.2.1 hp 1]
      exact ⟨fun q => ⟨(frW_off g6 o2.1 np 6).trans (b1 q).1, (g4 k (by omega)).1.trans (b1 q).2⟩, g5⟩
  · rw [hpl] at g4
    exact .inr ⟨by omega, x, g2, g3, frW_trans f0 (by rw [pts_u h1]; exact frW_mono g4 fun q hq => List.mem_cons_of_mem _ hq), by omega, by omega⟩
theorem lem_0 {z z2 : aSt} {a b p k : Nat} {l r : Tr} {due : Bool} (B : begun z 0 p due k z2) : walkQ z (.inner 0 a b l r) p due k (.inl none) z2 := by
  obtain ⟨b1, b2, b3, b4, b5, b6, b7⟩ := B
  refine .inl ⟨b7, rfl, b2, fun i hi => ?_, ⟨b1, trivial⟩, b4, b5, b6⟩
  have e := ent_105 (b3 i hi)
  exact ⟨e.1, fun _ _ _ => b3 i hi⟩
theorem pts_ok {z : aSt} : ∀ (T : Tr) (p : Nat), repP z T p → ∀ b, b ∈ pts z T p → okQ z b
  | .leaf, _, h => False.elim h
  | .inner n a b l r, p, ⟨h2, h3, h⟩ => by
    intro q hq
    rcases h with ⟨h1, h4⟩ | ⟨h1, h4, h5⟩ | ⟨h1, h4, h5, h6, h7⟩ | ⟨h1, h4, h5, h6, h7⟩
    · subst h1
      rw [List.mem_singleton.mp (show q ∈ [p] from hq)]; exact h2
    · rw [pts_u h1] at hq
      rcases List.mem_cons.mp hq with g | g
      · rw [g]; exact h2
      · exact pts_ok l _ h5 q g
    · rw [pts_s h1] at hq
      rcases List.mem_cons.mp hq with g | g
      · rw [g]; exact h2
      · exact pts_ok r _ h7 q g
    · rw [pts_b h1] at hq
      rcases List.mem_cons.mp hq with g | g
      · rw [g]; exact h2
      · rcases List.mem_append.mp g with g | g
        · exact pts_ok l _ h5 q g
        · exact pts_ok r _ h7 q g
/-- both sides -/
theorem lem_b1 {z z2 z3 : aSt} {n a b p k : Nat} {l r : Tr} {due : Bool} {o : aRes} (h1 : n = 5 ∨ n = 6 ∨ n = 7) (hl : repP z l (vR z p 1)) (B : begun z n p due k z2) (h : 9 < k + owns due n + wid l false ∧ ∃ x, o = .inr x ∧ gT z3 x = (14, 0) ∧ frW (pts z2 l (vR z p 1)) z2 z3 ∧ gZ z3 = gZ z2 + 1 ∧ gS z3 = gS z2 + 6) : walkQ z (.inner n a b l r) p due k o z3 := by
  obtain ⟨b1, b2, b3, b4, b5, b6, b7⟩ := B
  obtain ⟨g1, x, g2, g3, g4, g5, g6⟩ := h
  rw [pts_shp b4.2.2.2.1 l _ hl] at g4
  unfold walkQ
  rw [wid_b h1, pts_b h1]
  exact .inr ⟨by omega, x, g2, g3, frW_trans (frW_mono b4 sub_one) (frW_mono g4 fun q hq => List.mem_cons_of_mem _ (List.mem_append.mpr (.inl hq))), by omega, by omega⟩
theorem lem_b2 {z z2 z3 z4 : aSt} {n a b p k : Nat} {l r : Tr} {due : Bool} {o : aRes} (h1 : n = 5 ∨ n = 6 ∨ n = 7) (hp : okQ z p) (hl : repP z l (vR z p 1)) (hr : repP z r (vR z p 2)) (hnd : (pts z (.inner n a b l r) p).Nodup) (B : begun z n p due k z2)
    (h : k + owns due n + wid l false ≤ 9 ∧ gI z3 104 0 = nI (k + owns due n + wid l false) ∧ (∀ i, i < k + owns due n → kept (pts z2 l (vR z p 1)) z2 z3 i) ∧ numC z3 l (vR z p 1) false (k + owns due n) ∧ frW (pts z2 l (vR z p 1)) z2 z3 ∧ gZ z3 = gZ z2 ∧ gS z3 = gS z2)
    (g : walkQ z3 r (vR z p 2) false (k + owns due n + wid l false) o z4) : walkQ z (.inner n a b l r) p due k o z4 := by
  obtain ⟨b1, b2, b3, b4, b5, b6, b7⟩ := B
  obtain ⟨c1, c2, c3, c4, c5, c6, c7⟩ := h
  rw [pts_b h1] at hnd
  obtain ⟨np, hnd2⟩ := List.nodup_cons.mp hnd
  obtain ⟨_, _, dis⟩ := List.nodup_append.mp hnd2
  have s2 := b4.2.2.2.1
  have hpl := pts_shp s2 l _ hl
  have s3 := shp_trans s2 c5.2.2.2.1
  have hpr := pts_shp s3 r _ hr
  have hl3 := repP_shp s3 l _ hl
  have hpl3 := pts_shp s3 l _ hl
  rw [hpl] at c3 c5
  have f3 : frW (pts z (.inner n a b l r) p) z z3 := by
    rw [pts_b h1]
    exact frW_trans (frW_mono b4 sub_one) (frW_mono c5 fun q hq => List.mem_cons_of_mem _ (List.mem_append.mpr (.inl hq)))
  have o3 := s3 p hp
  unfold walkQ
  rw [wid_b h1]
  rcases g with ⟨g1, g2, g3, g4, g5, g6, g7, g8⟩ | ⟨g1, x, g2, g3, g4, g5, g6⟩
  · rw [hpr] at g4 g6
    refine .inl ⟨by omega, g2, ?_, fun i hi => ?_, ?_, frW_trans f3 (by rw [pts_b h1]; exact frW_mono g6 fun q hq => List.mem_cons_of_mem _ (List.mem_append.mpr (.inr hq))), by omega, by omega⟩
    · rw [g3]
      congr 1
      omega
    · have k1 := kept_pre (qs := pts z (.inner n a b l r) p) (b3 i hi) (c3 i (by omega)) (fun q hq => by rw [pts_b h1]; exact List.mem_cons_of_mem _ (List.mem_append.mpr (.inl hq)))
      have k2 := g4 i (by omega)
      refine ⟨k2.1.trans k1.1, fun q1 q2 q3 => ?_⟩
      have e := k1.2 q1 q2 q3
      have e2 := ent_105 e
      obtain ⟨bb, q4, q5⟩ := q2
      exact (k2.2 (e2.1.trans q1) ⟨bb, e2.2.1.trans q4, fun q => q5 (by rw [pts_b h1]; exact List.mem_cons_of_mem _ (List.mem_append.mpr (.inr q)))⟩ (by rw [e2.2.2]; exact q3)).trans e
    · rw [num_b h1, vR_shp (shp_trans s3 g6.2.2.2.1) hp 1, vR_shp (shp_trans s3 g6.2.2.2.1) hp 2]
      refine ⟨fun q => ⟨?_, ?_⟩, ?_, g5⟩
      · rw [frW_off g6 o3.1 (fun q => np (List.mem_append.mpr (.inr q))) 6, frW_off c5 (s2 p hp).1 (fun q => np (List.mem_append.mpr (.inl q))) 6]
        exact (b1 q).1
      · exact ((g4 k (by omega)).1.trans (c3 k (by omega)).1).trans (b1 q).2
      · refine numC_keep g6.2.2.2.1 l _ _ _ hl3 c4 (fun bb hb => ?_) (fun i i1 i2 => ?_)
        · rw [hpl3] at hb
          exact fun j => frW_off g6 (s3 bb (pts_ok l _ hl bb hb)).1 (fun q => dis bb hb bb q rfl) j
        · have kk := g4 i (by omega)
          refine ⟨kk.1, fun q1 => ?_⟩
          obtain ⟨⟨bb, q2, q3⟩, q4⟩ := numC_in l _ _ _ hl3 c4 i i1 i2 q1
          rw [hpl3] at q3
          exact kk.2 q1 ⟨bb, q2, fun q => dis bb q3 bb q rfl⟩ q4
  · rw [hpr] at g4
    exact .inr ⟨by omega, x, g2, g3, frW_trans f3 (by rw [pts_b h1]; exact frW_mono g4 fun q hq => List.mem_cons_of_mem _ (List.mem_append.mpr (.inr hq))), by omega, by omega⟩
/-- a sequence, then what stands behind it -/
theorem lem_s {z z2 z3 z5 z6 : aSt} {n a b p k : Nat} {l r : Tr} {due : Bool} {o : aRes} (h1 : n = 3 ∨ n = 4) (hp : okQ z p) (hr : repP z r (vR z p 2)) (hnd : (pts z (.inner n a b l r) p).Nodup) (B : begun z n p due k z2)
    (G : layG z2 (k + owns due n) (sfo (sq l)) (sms (sq l)) p z3) (h5 : frI (fun b => b = 108) (sI z3 p 7 (nI (sFi (sq l) * 2 ^ (k + owns due n)))) z5)
    (hE : ∀ i, gI z5 108 i = if i < k + owns due n + (sfo (sq l)).length then endE (sI z3 p 7 (nI (sFi (sq l) * 2 ^ (k + owns due n)))) p (sLa (sq l) * 2 ^ (k + owns due n)) i else gI (sI z3 p 7 (nI (sFi (sq l) * 2 ^ (k + owns due n)))) 108 i)
    (g : walkQ z5 r (vR z p 2) (n == 4) (k + owns due n + (sfo (sq l)).length) o z6) : walkQ z (.inner n a b l r) p due k o z6 := by
  obtain ⟨b1, b2, b3, b4, b5, b6, b7⟩ := B
  obtain ⟨a1, a2, a3, a4, a5, a6, a7⟩ := G
  rw [pts_s h1] at hnd
  have hp4 := hp.2.2
  obtain ⟨np, _⟩ := List.nodup_cons.mp hnd
  have f5 : frW [p] z z5 := by
    refine frW_trans (frW_trans (frW_trans b4 (frD_W a5)) (frW_sI (List.mem_singleton.mpr rfl) hp4 (.inr rfl))) (frD_W ⟨fr_mono h5.fr fun b _ g => by omega, fun k => by rw [h5.2.2.1], fun k _ => h5.2.2.2.2.2 104 (by decide) k, fun i => .inl (by rw [h5.2.2.1])⟩)
  have s5 := f5.2.2.2.1
  have hpr := pts_shp s5 r _ hr
  have o5 := s5 p hp
  have e4 : ∀ i, gI (sI z3 p 7 (nI (sFi (sq l) * 2 ^ (k + owns due n)))) 108 i = gI z3 108 i := fun i => gI_ne (by omega)
  have x5 : ∀ i, gI z5 106 i = gI z3 106 i ∧ gI z5 107 i = gI z3 107 i ∧ gR z5 109 i = gR z3 109 i ∧ gR z5 105 i = gR z3 105 i := fun i => ⟨(h5.2.2.2.2.2 106 (by decide) i).trans (gI_ne (by omega)), (h5.2.2.2.2.2 107 (by decide) i).trans (gI_ne (by omega)), (by rw [h5.2.2.1]; rfl), (by rw [h5.2.2.1]; rfl)⟩
  -- places before stay
  have old : ∀ i, i < k + owns due n → kept [p] z2 z5 i := by
    intro i hi
    have e3 := ent_105 (a3 i hi)
    refine ⟨(x5 i).2.2.2.trans e3.1, fun q1 ⟨bb, q2, q3⟩ q4 => ?_⟩
    rw [← a3 i hi]
    unfold ent
    rw [(x5 i).1, (x5 i).2.1, (x5 i).2.2.1, (x5 i).2.2.2, hE i, if_pos (by omega)]
    have hb : endE (sI z3 p 7 (nI (sFi (sq l) * 2 ^ (k + owns due n)))) p (sLa (sq l) * 2 ^ (k + owns due n)) i = gI z3 108 i := by
      unfold endE
      rw [e4, tb_mul, decide_eq_false (show ¬ k + owns due n ≤ i by omega), Bool.false_and]
      have hg : gR (sI z3 p 7 (nI (sFi (sq l) * 2 ^ (k + owns due n)))) 109 i = some bb := e3.2.1.trans q2
      rw [hg, e3.2.2]
      have hbp : some bb ≠ some p := fun q => q3 (List.mem_singleton.mpr (Option.some.inj q))
      rcases q4 with q4 | q4
      · rw [q4, if_neg (fun g => g.elim (fun g => g.1 rfl) (fun g => by cases g))]; rfl
      · rw [q4, if_pos (.inl ⟨by decide, hbp⟩)]; rfl
    rw [hb]
  have new : plcAt z5 (k + owns due n) (sq l) p := by
    intro i hi
    have e := a4 i hi
    unfold ent at e ⊢
    simp only [Prod.mk.injEq] at e
    rw [(x5 _).1, (x5 _).2.1, (x5 _).2.2.1, (x5 _).2.2.2, hE, if_pos (by omega), e.1, e.2.1, e.2.2.2.1, e.2.2.2.2]
    unfold endE
    rw [e4, e.2.2.1, tb_mul, decide_eq_true (show k + owns due n ≤ k + owns due n + i by omega), Bool.true_and, Nat.add_sub_cancel_left]
    by_cases c : (sLa (sq l)).testBit i = true
    · rw [if_pos (.inr c), if_pos c]; rfl
    · rw [if_neg (fun g => g.elim (fun g => g.1 rfl) c), if_neg c]; rfl
  have f0 : frW (pts z (.inner n a b l r) p) z z5 := by rw [pts_s h1]; exact frW_mono f5 sub_one
  have z52 : gZ z5 = gZ z ∧ gS z5 = gS z := ⟨(h5.2.2.2.1.trans a6).trans b5, (h5.2.2.2.2.1.trans a7).trans b6⟩
  unfold walkQ
  rw [wid_s h1]
  rcases g with ⟨g1, g2, g3, g4, g5, g6, g7, g8⟩ | ⟨g1, x, g2, g3, g4, g5, g6⟩
  · rw [hpr] at g4 g6
    refine .inl ⟨by omega, g2, ?_, fun i hi => ?_, ?_, frW_trans f0 (by rw [pts_s h1]; exact frW_mono g6 fun q hq => List.mem_cons_of_mem _ hq), by omega, by omega⟩
    · rw [g3]
      congr 1
      omega
    · have k1 := kept_pre (qs := pts z (.inner n a b l r) p) (b3 i hi) (old i (by omega)) (by rw [pts_s h1]; exact sub_one)
      have k2 := g4 i (by omega)
      refine ⟨k2.1.trans k1.1, fun q1 q2 q3 => ?_⟩
      have e := k1.2 q1 q2 q3
      have e2 := ent_105 e
      obtain ⟨bb, q4, q5⟩ := q2
      exact (k2.2 (e2.1.trans q1) ⟨bb, e2.2.1.trans q4, fun q => q5 (by rw [pts_s h1]; exact List.mem_cons_of_mem _ q)⟩ (by rw [e2.2.2]; exact q3)).trans e
    · rw [num_s h1, vR_shp (shp_trans s5 g6.2.2.2.1) hp 2]
      refine ⟨fun q => ⟨?_, ?_⟩, ?_, fun i hi => ?_, g5⟩
      · rw [frW_off g6 o5.1 np 6, h5.2.2.2.2.2 p (by omega), gI_nk (by decide), ((frD_prt (b4.2.2.2.1 p hp).1 a5).2 6).1]
        exact (b1 q).1
      · have e3 := ent_105 (a3 k (by omega))
        exact (((g4 k (by omega)).1.trans (x5 k).2.2.2).trans e3.1).trans (b1 q).2
      · rw [frW_off g6 o5.1 np 7, h5.2.2.2.2.2 p (by omega), gI_same]
      · have q := plc_ent new (Nat.le_add_right _ i) (by omega)
        exact ((g4 (k + owns due n + i) (by omega)).2 q.2.1 ⟨p, q.1, np⟩ q.2.2).trans (new i hi)
  · rw [hpr] at g4
    exact .inr ⟨by omega, x, g2, g3, frW_trans f0 (by rw [pts_s h1]; exact frW_mono g4 fun q hq => List.mem_cons_of_mem _ hq), by omega, by omega⟩
