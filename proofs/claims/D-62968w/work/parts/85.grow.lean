/-! Circuit.grow, make, size -/
set_option maxRecDepth 100000
noncomputable def ndr (i : Nat) (l h : Tr) : Tr := @ite Tr (l = h) (Classical.propDecidable _) l (nde i l h)
theorem ndr_eq {i : Nat} {l h : Tr} (e : l = h) : ndr i l h = l := by
  unfold ndr
  exact @if_pos _ (Classical.propDecidable _) e _ _ _
theorem ndr_ne {i : Nat} {l h : Tr} (e : l ≠ h) : ndr i l h = nde i l h := by
  unfold ndr
  exact @if_neg _ (Classical.propDecidable _) e _ _ _
/-- the tree of gates with m inputs open -/
noncomputable def gw (W : Nat → Nat → Bool) (b : Nat) : Nat → Nat → Nat → Tr
  | 0, lt, cd => if W cd lt = true then c1 else c0
  | m + 1, lt, cd => ndr (b + 2 - m) (gw W b m lt cd) (if b + 2 - m < 3 then gw W b m (lt ||| 2 ^ (b + 2 - m)) cd else gw W b m lt (cd ||| 2 ^ m))
/-- its nodes -/
def sbn : Tr → List Tr
  | .leaf => []
  | .inner n a b l r => if n < 2 then [] else .inner n a b l r :: (sbn l ++ sbn r)
theorem sbn_nde (i : Nat) (l h : Tr) : sbn (nde i l h) = nde i l h :: (sbn l ++ sbn h) := by
  show (if i + 2 < 2 then [] else _) = _
  rw [if_neg (by omega)]
  rfl
def cirX (z : aSt) (many : Nat) (out : List (Option Nat)) : Prop := monS z ∧ monR z many out ∧ cirS z ∧ gR z 345 7 = some 263 ∧ gI z 345 5 = nI (bitsOf many) ∧ 368 ≤ gZ z
theorem gtF_off {z : aSt} {gts : List Tr} {ps : List Nat} {e c n b : Nat} (h : gq z gts ps e c) (hb : b < 468) (h1 : b ≠ 345) (h2 : b ≠ 348) (h3 : (gT z b).1 ≠ 49) : ¬ gtF n ps e b := by
  rintro (g | g | g | ⟨i, g1, g2, g3, g4⟩)
  · exact h1 g
  · exact h2 g
  · rw [g, h.1.2.2.2.2.2.1] at h3; exact h3 rfl
  · have := (h.2.2.2.2.2.1 _ (get_mem g3)).2.2
    omega
theorem cirX_gR {z z' : aSt} {many n n' : Nat} {out : List (Option Nat)} {gts : List Tr} {ps ps' : List Nat} {e c e' c' : Nat} (h : cirX z many out) (hq : gq z gts ps e c) (r : gR' n z ps e c z' n' ps' e' c') : cirX z' many out := by
  obtain ⟨m, mr, cs, h7, h5, hz⟩ := h
  have f := r.2.1
  have t : ∀ b, b < 468 → gT z' b = gT z b := fun b hb => f.2.1 b (by unfold lv; omega)
  have k : ∀ b, b < 468 → b ≠ 345 → b ≠ 348 → (gT z b).1 ≠ 49 → ∀ k, gI z' b k = gI z b k ∧ gR z' b k = gR z b k := fun b hb h1 h2 h3 k => by
    have := f.2.2 b (by unfold lv; omega) (gtF_off hq hb h1 h2 h3) k
    exact ⟨this.1, this.2.2⟩
  have k263 := k 263 (by decide) (by decide) (by decide) (by rw [m.1]; decide)
  refine ⟨⟨(t _ (by decide)).trans m.1, ((k263 0).2).trans m.2.1, (t _ (by decide)).trans m.2.2.1, fun i hi => ?_⟩, ⟨((k263 1).1).trans mr.1, mr.2.1, mr.2.2.1, fun i hi => ?_, mr.2.2.2.2⟩, ?_, (r.2.2.1 7).trans h7, (r.2.2.2.1 5 (by decide)).trans h5, Nat.le_trans hz f.1⟩
  · obtain ⟨a1, a2, a3, a4, a5⟩ := m.2.2.2 i hi
    have k1 := k (265 + 2 * i) (by omega) (by omega) (by omega) (by rw [a2]; decide)
    exact ⟨((k 264 (by decide) (by decide) (by decide) (by rw [m.2.2.1]; decide) i).2).trans a1, (t _ (by omega)).trans a2, ((k1 0).1).trans a3, ((k1 1).2).trans a4, (t _ (by omega)).trans a5⟩
  · have hl := mr.2.2.1
    have h40 := mr.2.1
    obtain ⟨a1, a2, a3, a4, a5⟩ := m.2.2.2 (i / 8) (by omega)
    exact ((k (266 + 2 * (i / 8)) (by omega) (by omega) (by omega) (by rw [a5]; decide) (i % 8)).2).trans (mr.2.2.2.1 i hi)
  · obtain ⟨c1, c2, c3, c4, c5, c6, c7, c8, c9, c10, c11, c12⟩ := cs
    have k1 := k 346 (by decide) (by decide) (by decide) (by rw [c6]; decide)
    have k2 := k 347 (by decide) (by decide) (by decide) (by rw [c7]; decide)
    exact ⟨(t _ (by decide)).trans c1, (r.2.2.1 0).trans c2, (r.2.2.1 1).trans c3, (r.2.2.1 2).trans c4, (r.2.2.1 4).trans c5, (t _ (by decide)).trans c6, (t _ (by decide)).trans c7, (t _ (by decide)).trans c8, ((k1 1).2).trans c9, ((k2 1).2).trans c10, ((k1 3).1).trans c11, ((k2 3).1).trans c12⟩
def grQ (m : Nat) (t : Tr) (gts : List Tr) (ps : List Nat) (e c : Nat) (z : aSt) (o : aRes) (z' : aSt) : Prop := ∃ (g : Nat) (gts' : List Tr) (ps' : List Nat) (e' c' : Nat), o = .inl (some (.ref g)) ∧ gq z' gts' ps' e' c' ∧ gAt ps' gts' t g ∧ gR' gts.length z ps e c z' gts'.length ps' e' c' ∧ (∃ s, gts' = gts ++ s ∧ s.length + 1 ≤ 2 ^ m) ∧ ∀ u, u ∈ gts' ↔ u ∈ gts ∨ u ∈ sbn t
theorem or8 {a b : Nat} (h : a < 8) (g : b < 8) : a ||| b < 8 := Nat.or_lt_two_pow (n := 3) h g
theorem x_grow0 {d many o lt cd : Nat} {out : List (Option Nat)} {gts : List Tr} {ps : List Nat} {e c : Nat} {z : aSt} (hX : cirX z many out) (hq : gq z gts ps e c) (hl : lt < 8) (hc : cd < 64) (ho : o ≤ bitsOf many) : aW (d + 8) 80 [.ref 345, .int (nI o), .int (nI (3 + bitsOf many)), .int (nI lt), .int (nI cd)] z (grQ 0 (if wnt many out o cd lt = true then c1 else c0) gts ps e c z) := by
  obtain ⟨m, mr, cs, h7, h5, hz⟩ := hX
  have hT : (gT z 345).1 = 7 := by rw [cs.1]
  have hb := bits_rng many mr.2.1
  refine w_of (k := 80) (m := aM_X7_grow) rfl rfl ?_
  refine w_nx (pc' := 1) rfl ?_
  refine w_nx (pc' := 2) (S' := .int (nI 3) :: _) rfl ?_
  refine w_nx (pc' := 3) rfl ?_
  refine w_getI rfl rfl (hT) rfl rfl ?_
  refine w_top (h5) ?_
  refine w_nx (pc' := 7) rfl ?_
  refine w_top (nI_add _ _) ?_
  refine w_ncne rfl rfl rfl rfl rfl (by omega) (by omega) (fun g => absurd rfl g) (fun _ => ?_)
  refine w_nx (pc' := 11) rfl ?_
  refine w_nx (pc' := 12) rfl ?_
  refine w_nx (pc' := 14) rfl ?_
  refine w_nx (pc' := 15) rfl ?_
  obtain ⟨r, z1, e1, q1, q2⟩ := x_wanted (d := d + 6) m mr hT h7 h5 hl hc ho
  subst q2
  rw [q1] at e1
  refine w_cal (pc' := 18) rfl (a_cv0 rfl rfl rfl (hT) rfl rfl) (e1) ?_
  cases hw : wnt many out o cd lt
  · refine w_ifeq rfl rfl rfl (fun _ => ?_) (fun g => absurd rfl g)
    refine w_nx (pc' := 29) rfl ?_
    refine w_getR rfl rfl (hT) (congrArg va_rf (cs.2.1)) rfl ?_
    exact w_fin rfl ⟨346, gts, ps, e, c, rfl, hq, .inl ⟨rfl, rfl⟩, gR_refl (Nat.le_refl _), ⟨[], (List.append_nil gts).symm, Nat.le_refl _⟩, fun u => ⟨.inl, fun g => g.elim (fun g => g) fun g => (by cases g)⟩⟩
  · refine w_ifeq rfl rfl rfl (fun g => absurd g (by decide)) (fun _ => ?_)
    refine w_nx (pc' := 22) rfl ?_
    refine w_getR rfl rfl (hT) (congrArg va_rf (cs.2.2.1)) rfl ?_
    refine w_nx (pc' := 32) rfl ?_
    exact w_fin rfl ⟨347, gts, ps, e, c, rfl, hq, .inr (.inl ⟨rfl, rfl⟩), gR_refl (Nat.le_refl _), ⟨[], (List.append_nil gts).symm, Nat.le_refl _⟩, fun u => ⟨.inl, fun g => g.elim (fun g => g) fun g => (by cases g)⟩⟩
/-- the end of a step -/
theorem x_growE {d many m i o : Nat} {out : List (Option Nat)} {l h : Tr} {gts gts1 gts2 : List Tr} {ps ps1 ps2 : List Nat} {e c e1 c1 e2 c2 gl gh : Nat} {z z1 z2 : aSt} {v3 v4 v5 : Option Value} (hX : cirX z2 many out) (hi : i < 9) (q1 : gq z1 gts1 ps1 e1 c1) (a1 : gAt ps1 gts1 l gl) (r1 : gR' gts.length z ps e c z1 gts1.length ps1 e1 c1) (s1 : ∃ s, gts1 = gts ++ s ∧ s.length + 1 ≤ 2 ^ m) (m1 : ∀ u, u ∈ gts1 ↔ u ∈ gts ∨ u ∈ sbn l)
    (q2 : gq z2 gts2 ps2 e2 c2) (a2 : gAt ps2 gts2 h gh) (r2 : gR' gts1.length z1 ps1 e1 c1 z2 gts2.length ps2 e2 c2) (s2 : ∃ s, gts2 = gts1 ++ s ∧ s.length + 1 ≤ 2 ^ m) (m2 : ∀ u, u ∈ gts2 ↔ u ∈ gts1 ∨ u ∈ sbn h) (h4 : gts.length + 2 ^ (m + 1) ≤ 4000) : wR (aEx (d + 8)) aM_X7_grow (grQ (m + 1) (ndr i l h) gts ps e c z) 109 [some (.ref 345), some (.int (nI o)), some (.int (nI i)), v3, v4, v5, some (.ref gl), some (.ref gh)] [] z2 := by
  obtain ⟨s, hs, hsl⟩ := s1
  obtain ⟨t, ht, htl⟩ := s2
  have hp : 2 ^ (m + 1) = 2 ^ m + 2 ^ m := by rw [Nat.pow_succ]; omega
  have len1 : gts1.length = gts.length + s.length := by rw [hs, List.length_append]
  have len2 : gts2.length = gts1.length + t.length := by rw [ht, List.length_append]
  have a1' : gAt ps2 gts2 l gl := by
    obtain ⟨q, hq, _⟩ := r2.2.2.2.2.1
    rw [ht, hq]
    exact gAt_app a1
  have g1 := gAt_ge q2 a1'
  have g2 := gAt_ge q2 a2
  refine w_nx (pc' := 111) rfl ?_
  refine w_nx (pc' := 113) rfl ?_
  refine w_an (u := some gl) (v := some gh) rfl rfl rfl (acmp_ge (by omega) (by omega)) (fun g => ?_) (fun g => ?_)
  · have hne : l ≠ h := fun q => g (by rw [(gAt_eq q2 a1' a2).mpr q])
    rw [ndr_ne hne]
    obtain ⟨M, mr, cs, h7, h5, hz⟩ := hX
    have hT : (gT z2 345).1 = 7 := by rw [cs.1]
    refine w_nx (pc' := 122) rfl ?_
    refine w_nx (pc' := 123) rfl ?_
    refine w_nx (pc' := 125) rfl ?_
    refine w_nx (pc' := 127) rfl ?_
    obtain ⟨oo, z3, e3, gg, gts3, ps3, e3', c3, y1, y2, y3, y4, ⟨w, hw, hwl⟩, y6⟩ := x_gate (d := d + 1) q2 hT cs.2.2.2.1 hz hi a1' a2 (by omega)
    subst y1
    refine w_cal (pc' := 130) rfl (a_cv0 rfl rfl rfl (hT) rfl rfl) (e3) ?_
    refine w_fin rfl ⟨gg, gts3, ps3, e3', c3, rfl, y2, y3, gR_trans (gR_trans r1 r2) y4, ⟨s ++ (t ++ w), by rw [hw, ht, hs, List.append_assoc, List.append_assoc], ?_⟩, fun u => ?_⟩
    · rw [List.length_append, List.length_append]; omega
    · rw [y6, m2, m1, sbn_nde, List.mem_cons, List.mem_append]
      constructor
      · rintro (((g | g) | g) | g)
        · exact .inl g
        · exact .inr (.inr (.inl g))
        · exact .inr (.inr (.inr g))
        · exact .inr (.inl g)
      · rintro (g | g | g | g)
        · exact .inl (.inl (.inl g))
        · exact .inr g
        · exact .inl (.inl (.inr g))
        · exact .inl (.inr g)
  · have heq : l = h := (gAt_eq q2 a1' a2).mp (Option.some.inj g)
    rw [ndr_eq heq]
    refine w_nx (pc' := 118) rfl ?_
    refine w_nx (pc' := 130) rfl ?_
    refine w_fin rfl ⟨gl, gts2, ps2, e2, c2, rfl, q2, a1', gR_trans r1 r2, ⟨s ++ t, by rw [ht, hs, List.append_assoc], ?_⟩, fun u => ?_⟩
    · rw [List.length_append]; omega
    · rw [m2, m1, ← heq]
      constructor
      · rintro ((g | g) | g)
        · exact .inl g
        · exact .inr g
        · exact .inr g
      · rintro (g | g)
        · exact .inl (.inl g)
        · exact .inr g
theorem x_grow {many o : Nat} {out : List (Option Nat)} (ho : o ≤ bitsOf many) : ∀ (m d lt cd : Nat) (gts : List Tr) (ps : List Nat) (e c : Nat) (z : aSt), m ≤ 3 + bitsOf many → lt < 8 → cd < 2 ^ bitsOf many → cirX z many out → gq z gts ps e c → gts.length + 2 ^ m ≤ 4000 → aW (d + m + 8) 80 [.ref 345, .int (nI o), .int (nI (3 + bitsOf many - m)), .int (nI lt), .int (nI cd)] z (grQ m (gw (wnt many out o) (bitsOf many) m lt cd) gts ps e c z)
  | 0, d, lt, cd, gts, ps, e, c, z, hm, hl, hc, hX, hq, h4 => by
    have hb := bits_rng many hX.2.1.2.1
    have hp : 2 ^ bitsOf many ≤ 2 ^ 6 := Nat.pow_le_pow_right (by decide) hb.2.1
    exact x_grow0 hX hq hl (by omega) ho
  | m + 1, d, lt, cd, gts, ps, e, c, z, hm, hl, hc, hX, hq, h4 => by
    have hb := bits_rng many hX.2.1.2.1
    have hp : 2 ^ (m + 1) = 2 ^ m + 2 ^ m := by rw [Nat.pow_succ]; omega
    have hpp := Nat.two_pow_pos m
    have hT : (gT z 345).1 = 7 := by rw [hX.2.2.1.1]
    have h5 := hX.2.2.2.2.1
    have ei : 3 + bitsOf many - (m + 1) = bitsOf many + 2 - m := by omega
    have ei1 : bitsOf many + 2 - m + 1 = 3 + bitsOf many - m := by omega
    rw [ei]
    generalize hgi : bitsOf many + 2 - m = i at ei1 ⊢
    have hi : i < 9 := by omega
    refine w_of (k := 80) (m := aM_X7_grow) (d := d + m + 8) rfl rfl ?_
    refine w_nx (pc' := 1) rfl ?_
    refine w_nx (pc' := 2) (S' := .int (nI 3) :: _) rfl ?_
    refine w_nx (pc' := 3) rfl ?_
    refine w_getI rfl rfl (hT) rfl rfl ?_
    refine w_top (h5) ?_
    refine w_nx (pc' := 7) rfl ?_
    refine w_top (nI_add _ _) ?_
    refine w_ncne rfl rfl rfl rfl rfl (by omega) (by omega) (fun _ => ?_) (fun g => absurd g (by omega))
    -- behind the bit
    have tl : ∀ bit : Nat, ((i < 3 ∧ bit = 2 ^ i) ∨ (3 ≤ i ∧ bit = 2 ^ m)) → wR (aEx (d + m + 8)) aM_X7_grow (grQ (m + 1) (gw (wnt many out o) (bitsOf many) (m + 1) lt cd) gts ps e c z) 56 [some (.ref 345), some (.int (nI o)), some (.int (nI i)), some (.int (nI lt)), some (.int (nI cd)), none, none, none] [.int (nI bit)] z := by
      intro bit hbit
      have eg : gw (wnt many out o) (bitsOf many) (m + 1) lt cd = ndr i (gw (wnt many out o) (bitsOf many) m lt cd) (if i < 3 then gw (wnt many out o) (bitsOf many) m (lt ||| 2 ^ i) cd else gw (wnt many out o) (bitsOf many) m lt (cd ||| 2 ^ m)) := by
        rw [← hgi]; rfl
      rw [eg]
      refine w_nx (pc' := 58) rfl ?_
      refine w_nx (pc' := 59) rfl ?_
      refine w_nx (pc' := 60) rfl ?_
      refine w_nx (pc' := 61) rfl ?_
      refine w_nx (pc' := 62) (S' := .int (nI 1) :: _) rfl ?_
      refine w_nx (pc' := 63) rfl ?_
      refine w_top ((nI_add i 1).trans (congrArg nI ei1)) ?_
      refine w_nx (pc' := 64) rfl ?_
      refine w_nx (pc' := 66) rfl ?_
      obtain ⟨o1, z1, e1, g1, gts1, ps1, e1', c1', y1, y2, y3, y4, y5, y6⟩ := x_grow (out := out) ho m d lt cd gts ps e c z (by omega) hl hc hX hq (by omega)
      subst y1
      have X1 := cirX_gR hX hq y4
      have y5' := y5
      obtain ⟨s, hs, hsl⟩ := y5'
      have len1 : gts1.length = gts.length + s.length := by rw [hs, List.length_append]
      refine w_cal (pc' := 69) rfl (rfl) (e1) ?_
      refine w_nx (pc' := 71) rfl ?_
      refine w_nx (pc' := 72) rfl ?_
      refine w_nx (pc' := 73) (S' := .int (nI 3) :: _) rfl ?_
      rcases hbit with ⟨hi3, hbit⟩ | ⟨hi3, hbit⟩
      · refine w_ncge rfl rfl rfl rfl rfl (by omega) (by decide) (fun g => absurd g (by omega)) (fun _ => ?_)
        rw [if_pos hi3]
        have h8 : bit < 8 := by rw [hbit]; exact Nat.lt_of_le_of_lt (Nat.pow_le_pow_right (by decide) (show i ≤ 2 by omega)) (by decide)
        refine w_nx (pc' := 77) rfl ?_
        refine w_nx (pc' := 78) rfl ?_
        refine w_nx (pc' := 79) rfl ?_
        refine w_nx (pc' := 80) (S' := .int (nI 1) :: _) rfl ?_
        refine w_nx (pc' := 81) rfl ?_
        refine w_top ((nI_add i 1).trans (congrArg nI ei1)) ?_
        refine w_nx (pc' := 82) rfl ?_
        refine w_nx (pc' := 84) rfl ?_
        refine w_nx (pc' := 85) rfl ?_
        refine w_top (nI_or _ _) ?_
        refine w_nx (pc' := 87) rfl ?_
        rw [hbit] at h8 ⊢
        obtain ⟨o2, z2, e2, g2, gts2, ps2, e2', c2', x1, x2, x3, x4, x5, x6⟩ := x_grow (out := out) ho m d (lt ||| 2 ^ i) cd gts1 ps1 e1' c1' z1 (by omega) (or8 hl h8) hc X1 y2 (by omega)
        subst x1
        refine w_cal (pc' := 90) rfl (rfl) (e2) ?_
        refine w_nx (pc' := 107) rfl ?_
        refine w_nx (pc' := 109) rfl ?_
        exact x_growE (d := d + m) (cirX_gR X1 y2 x4) hi y2 y3 y4 y5 y6 x2 x3 x4 x5 x6 h4
      · refine w_ncge rfl rfl rfl rfl rfl (by omega) (by decide) (fun _ => ?_) (fun g => absurd g (by omega))
        rw [if_neg (by omega)]
        have hmb : 2 ^ m < 2 ^ bitsOf many := Nat.pow_lt_pow_right (by decide) (by omega)
        refine w_nx (pc' := 94) rfl ?_
        refine w_nx (pc' := 95) rfl ?_
        refine w_nx (pc' := 96) rfl ?_
        refine w_nx (pc' := 97) (S' := .int (nI 1) :: _) rfl ?_
        refine w_nx (pc' := 98) rfl ?_
        refine w_top ((nI_add i 1).trans (congrArg nI ei1)) ?_
        refine w_nx (pc' := 99) rfl ?_
        refine w_nx (pc' := 101) rfl ?_
        refine w_nx (pc' := 103) rfl ?_
        refine w_nx (pc' := 104) rfl ?_
        refine w_top (nI_or _ _) ?_
        rw [hbit]
        obtain ⟨o2, z2, e2, g2, gts2, ps2, e2', c2', x1, x2, x3, x4, x5, x6⟩ := x_grow (out := out) ho m d lt (cd ||| 2 ^ m) gts1 ps1 e1' c1' z1 (by omega) hl (Nat.or_lt_two_pow hc hmb) X1 y2 (by omega)
        subst x1
        refine w_cal (pc' := 107) rfl (rfl) (e2) ?_
        refine w_nx (pc' := 109) rfl ?_
        exact x_growE (d := d + m) (cirX_gR X1 y2 x4) hi y2 y3 y4 y5 y6 x2 x3 x4 x5 x6 h4
    refine w_nx (pc' := 34) rfl ?_
    refine w_nx (pc' := 35) (S' := .int (nI 3) :: _) rfl ?_
    refine w_ncge rfl rfl rfl (rfl) (rfl) (by omega) (by omega) (fun hb3 => ?_) (fun hb3 => ?_)
    · refine w_nx (pc' := 45) (S' := .int (nI 1) :: _) rfl ?_
      refine w_nx (pc' := 46) rfl ?_
      refine w_getI rfl rfl (hT) rfl rfl ?_
      refine w_top (h5) ?_
      refine w_nx (pc' := 50) (S' := .int (nI 1) :: _) rfl ?_
      refine w_nx (pc' := 51) rfl ?_
      refine w_top (pk_sub (by omega)) ?_
      refine w_nx (pc' := 52) rfl ?_
      refine w_nx (pc' := 53) (S' := .int (nI 3) :: _) rfl ?_
      refine w_nx (pc' := 54) rfl ?_
      refine w_top (pk_sub (by omega)) ?_
      refine w_nx (pc' := 55) rfl ?_
      refine w_top (pk_sub (by omega)) ?_
      refine w_nx (pc' := 56) (S' := .int (nI 1 <<< (nI (bitsOf many - 1 - (i - 3)) &&& 31)) :: _) rfl ?_
      have e2 : bitsOf many - 1 - (i - 3) = m := by omega
      rw [e2]
      have hm6 : m < 32 := by omega
      have h32 : 1 * 2 ^ m < 2 ^ 32 := by rw [Nat.one_mul]; exact Nat.pow_lt_pow_right (by decide) hm6
      refine w_top (nI_shl hm6 h32) ?_
      rw [Nat.one_mul]
      exact tl _ (.inr ⟨hb3, rfl⟩)
    · have h32 : 1 * 2 ^ i < 2 ^ 32 := by rw [Nat.one_mul]; exact Nat.pow_lt_pow_right (by decide) (by omega)
      refine w_nx (pc' := 39) (S' := .int (nI 1) :: _) rfl ?_
      refine w_nx (pc' := 40) rfl ?_
      refine w_nx (pc' := 41) rfl ?_
      refine w_top (nI_shl (by omega) h32) ?_
      refine w_nx (pc' := 56) rfl ?_
      rw [Nat.one_mul]
      exact tl _ (.inl ⟨hb3, rfl⟩)
