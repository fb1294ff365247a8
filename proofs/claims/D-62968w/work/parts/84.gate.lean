/-! Circuit.gate -/
set_option maxRecDepth 100000
def c0 : Tr := .inner 0 0 0 .leaf .leaf
def c1 : Tr := .inner 1 0 0 .leaf .leaf
def nde (i : Nat) (l h : Tr) : Tr := .inner (i + 2) 0 0 l h
/-- g is the Gate of tree t; gts: the trees of the Gates in use -/
def gAt (ps : List Nat) (gts : List Tr) (t : Tr) (g : Nat) : Prop := (t = c0 ∧ g = 346) ∨ (t = c1 ∧ g = 347) ∨ ∃ k, k < gts.length ∧ k < ps.length ∧ gts.getD k .leaf = t ∧ g = ps.getD k 0
/-- trees of Gates are nodes -/
def isN (t : Tr) : Prop := ∃ i l h, t = nde i l h
theorem isN_c {t : Tr} (h : isN t) : t ≠ c0 ∧ t ≠ c1 := by
  obtain ⟨i, l, r, rfl⟩ := h
  refine ⟨fun e => ?_, fun e => ?_⟩
  · have e2 := congrArg (fun t : Tr => match t with | .inner k _ _ _ _ => k | .leaf => 0) e
    have e3 : i + 2 = 0 := e2
    omega
  · have e2 := congrArg (fun t : Tr => match t with | .inner k _ _ _ _ => k | .leaf => 0) e
    have e3 : i + 2 = 1 := e2
    omega
theorem nde_inj {i j : Nat} {l h l' h' : Tr} (e : nde i l h = nde j l' h') : i = j ∧ l = l' ∧ h = h' := by
  unfold nde at e
  injection e with e1 e2 e3 e4 e5
  exact ⟨by omega, e4, e5⟩
theorem c01 : c0 ≠ c1 := by
  intro e
  unfold c0 c1 at e
  injection e with e1
  cases e1
theorem gdT_mem {l : List Tr} {k : Nat} (h : k < l.length) : l.getD k .leaf ∈ l := by
  rw [List.getD_eq_getElem?_getD, List.getElem?_eq_getElem h]
  exact List.getElem_mem h
theorem gdT_mem2 {l : List Tr} {t : Tr} (h : t ∈ l) : ∃ k, k < l.length ∧ l.getD k .leaf = t := by
  obtain ⟨k, hk, e⟩ := List.getElem_of_mem h
  exact ⟨k, hk, by rw [List.getD_eq_getElem?_getD, List.getElem?_eq_getElem hk]; exact e⟩
theorem gdT_nd {l : List Tr} (h : l.Nodup) {i j : Nat} (hi : i < l.length) (hj : j < l.length) (e : l.getD i .leaf = l.getD j .leaf) : i = j := by
  rw [List.getD_eq_getElem?_getD, List.getD_eq_getElem?_getD, List.getElem?_eq_getElem hi, List.getElem?_eq_getElem hj] at e
  exact (List.getElem_inj h).mp e
theorem gdT_app {l s : List Tr} {k : Nat} (h : k < l.length) : (l ++ s).getD k .leaf = l.getD k .leaf := by
  rw [List.getD_eq_getElem?_getD, List.getElem?_append_left h, List.getD_eq_getElem?_getD]
/-- the pool of Gates -/
def gq (z : aSt) (gts : List Tr) (ps : List Nat) (e c : Nat) : Prop := isAL z 8 348 e c ps ∧ gI z 345 3 = nI gts.length ∧ gts.length ≤ ps.length ∧ ps.length ≤ 4000 ∧ ps.Nodup ∧ (∀ p ∈ ps, gT z p = (8, 0) ∧ lv z p ∧ 468 ≤ p) ∧ gts.Nodup ∧ ∀ k, k < gts.length → ∃ i l h gl gh, gts.getD k .leaf = nde i l h ∧ i < 9 ∧ gI z (ps.getD k 0) 0 = nI i ∧ gR z (ps.getD k 0) 1 = some gl ∧ gR z (ps.getD k 0) 2 = some gh ∧ gAt ps gts l gl ∧ gAt ps gts h gh
theorem gq_N {z : aSt} {gts : List Tr} {ps : List Nat} {e c : Nat} (h : gq z gts ps e c) {t : Tr} (ht : t ∈ gts) : isN t := by
  obtain ⟨k, hk, rfl⟩ := gdT_mem2 ht
  obtain ⟨i, l, r, gl, gh, e1, _⟩ := h.2.2.2.2.2.2.2 k hk
  exact ⟨i, l, r, e1⟩
theorem gAt_ge {z : aSt} {gts : List Tr} {ps : List Nat} {e c g : Nat} {t : Tr} (h : gq z gts ps e c) (a : gAt ps gts t g) : 346 ≤ g := by
  rcases a with ⟨_, rfl⟩ | ⟨_, rfl⟩ | ⟨k, h1, h2, h3, rfl⟩
  · decide
  · decide
  · have := (h.2.2.2.2.2.1 _ (get_mem h2)).2.2; omega
/-- the same Gate for the same tree only -/
theorem gAt_eq {z : aSt} {gts : List Tr} {ps : List Nat} {e c g g' : Nat} {t t' : Tr} (h : gq z gts ps e c) (a : gAt ps gts t g) (b : gAt ps gts t' g') : g = g' ↔ t = t' := by
  have hm : ∀ {k}, k < gts.length → gts.getD k .leaf ≠ c0 ∧ gts.getD k .leaf ≠ c1 := fun hk => isN_c (gq_N h (gdT_mem hk))
  have h4 : ∀ {k}, k < ps.length → 468 ≤ ps.getD k 0 := fun hk => (h.2.2.2.2.2.1 _ (get_mem hk)).2.2
  rcases a with ⟨e1, e2⟩ | ⟨e1, e2⟩ | ⟨k, h1, h2, h3, e2⟩ <;> rcases b with ⟨f1, f2⟩ | ⟨f1, f2⟩ | ⟨j, i1, i2, i3, f2⟩
  · exact ⟨fun _ => by rw [e1, f1], fun _ => by rw [e2, f2]⟩
  · exact ⟨fun g => by omega, fun g => absurd (by rw [← e1, ← f1, g]) c01⟩
  · exact ⟨fun g => by have := h4 i2; omega, fun g => absurd (by rw [i3, ← g, e1]) (hm i1).1⟩
  · exact ⟨fun g => by omega, fun g => absurd (by rw [← e1, ← f1, g]) c01.symm⟩
  · exact ⟨fun _ => by rw [e1, f1], fun _ => by rw [e2, f2]⟩
  · exact ⟨fun g => by have := h4 i2; omega, fun g => absurd (by rw [i3, ← g, e1]) (hm i1).2⟩
  · exact ⟨fun g => by have := h4 h2; omega, fun g => absurd (by rw [h3, g, f1]) (hm h1).1⟩
  · exact ⟨fun g => by have := h4 h2; omega, fun g => absurd (by rw [h3, g, f1]) (hm h1).2⟩
  · constructor
    · intro g
      rw [e2, f2] at g
      have : k = j := Classical.byContradiction fun hn => nd_get h.2.2.2.2.1 h2 i2 hn g
      rw [← h3, ← i3, this]
    · intro g
      rw [← h3, ← i3] at g
      have := gdT_nd h.2.2.2.2.2.2.1 h1 i1 g
      rw [e2, f2, this]
theorem gAt_app {gts s : List Tr} {ps q : List Nat} {t : Tr} {g : Nat} (a : gAt ps gts t g) : gAt (ps ++ q) (gts ++ s) t g := by
  rcases a with a | a | ⟨k, h1, h2, h3, e2⟩
  · exact .inl a
  · exact .inr (.inl a)
  · exact .inr (.inr ⟨k, by rw [List.length_append]; omega, by rw [List.length_append]; omega, by rw [gdT_app h1]; exact h3, by rw [gd_left h2]; exact e2⟩)
theorem acmp_ge {a b : Nat} (h : 100 ≤ a) (h2 : 100 ≤ b) : a_cmp (some a) (some b) = true := by
  show (a == b || (Nat.ble 100 a && !(Nat.beq b 16)) || (Nat.ble 100 b && !(Nat.beq a 16)) || (Nat.blt a 13 && Nat.blt b 13)) = true
  have e1 : Nat.ble 100 a = true := Nat.ble_eq_true_of_le h
  have e2 : Nat.beq b 16 = false := by
    cases hh : Nat.beq b 16
    · rfl
    · have := Nat.eq_of_beq_eq_true hh; omega
  rw [e1, e2]
  simp
/-- what work on the gates writes -/
def gtF (n : Nat) (ps : List Nat) (e b : Nat) : Prop := b = 345 ∨ b = 348 ∨ b = e ∨ ix ps n ps.length b
def gR' (n : Nat) (z : aSt) (ps : List Nat) (e c : Nat) (z' : aSt) (n' : Nat) (ps' : List Nat) (e' c' : Nat) : Prop :=
  n ≤ n' ∧ fr (gtF n ps e) z z' ∧ (∀ k, gR z' 345 k = gR z 345 k) ∧ (∀ k, k ≠ 3 → gI z' 345 k = gI z 345 k) ∧ (∃ t, ps' = ps ++ t ∧ ∀ p ∈ t, 100 + gZ z ≤ p) ∧ (e' = e ∨ 100 + gZ z ≤ e') ∧ ps'.length ≤ max ps.length n' ∧ gZ z' + 2 * ps.length ≤ gZ z + 2 * ps'.length ∧ gS z' + 4 * c + 4 * ps.length ≤ gS z + 4 * c' + 4 * ps'.length
theorem gR_refl {n m : Nat} {z : aSt} {ps : List Nat} {e c : Nat} (h : n ≤ m) : gR' n z ps e c z m ps e c := ⟨h, fr_refl z, fun _ => rfl, fun _ _ => rfl, ⟨[], (List.append_nil ps).symm, fun r hr => (by cases hr)⟩, .inl rfl, Nat.le_max_left .., Nat.le_refl _, Nat.le_refl _⟩
theorem gR_trans {n n1 n2 : Nat} {z z1 z2 : aSt} {ps ps1 ps2 : List Nat} {e c e1 c1 e2 c2 : Nat} (h : gR' n z ps e c z1 n1 ps1 e1 c1) (g : gR' n1 z1 ps1 e1 c1 z2 n2 ps2 e2 c2) : gR' n z ps e c z2 n2 ps2 e2 c2 := by
  obtain ⟨a0, a1, a2, a2', ⟨t, a3, a4⟩, a5, a6, a7, a8⟩ := h
  obtain ⟨b0, b1, b2, b2', ⟨t', b3, b4⟩, b5, b6, b7, b8⟩ := g
  have hz := a1.1
  refine ⟨Nat.le_trans a0 b0, fr_old a1 b1 ?_, fun k => (b2 k).trans (a2 k), fun k hk => (b2' k hk).trans (a2' k hk), ⟨t ++ t', by rw [b3, a3, List.append_assoc], fun r hr => ?_⟩, ?_, by omega, by omega, by omega⟩
  · intro b hb g
    rcases g with g | g | g | ⟨i, g1, g2, g2', g3⟩
    · exact .inl g
    · exact .inr (.inl g)
    · rcases a5 with q | q
      · exact .inr (.inr (.inl (g.trans q)))
      · unfold lv at hb; omega
    · by_cases c : i < ps.length
      · refine .inr (.inr (.inr ⟨i, Nat.le_trans a0 g1, c, c, ?_⟩))
        rw [a3, gd_left c] at g3
        exact g3
      · rw [a3] at g2 g3
        have := a4 _ (gd_right (by omega) g2)
        unfold lv at hb
        omega
  · rcases List.mem_append.mp hr with g | g
    · exact a4 r g
    · have := b4 r g; omega
  · rcases b5 with g | g
    · rw [g]; exact a5
    · exact .inr (by omega)
theorem x_ginit {d p : Nat} {z : aSt} : aW (d + 1) 84 [.ref p] z (fun o z' => o = .inl none ∧ z' = z) := by
  refine w_of (k := 84) (m := aM_X8_init) rfl rfl ?_
  refine w_nx (pc' := 1) rfl ?_
  refine w_nx (pc' := 4) rfl ?_
  exact w_fin rfl (⟨rfl, rfl⟩)
def gbe (z : aSt) (p i gl gh : Nat) : aSt := sR (sR (sI z p 0 (nI i)) p 1 (some gl)) p 2 (some gh)
theorem x_gbe {d p i gl gh : Nat} {z : aSt} (hT : (gT z p).1 = 8) (hp : 100 ≤ p) : aW (d + 1) 85 [.ref p, .int (nI i), .ref gl, .ref gh] z (fun o z' => o = .inl (some (.ref p)) ∧ z' = gbe z p i gl gh) := by
  refine w_of (k := 85) (m := aM_X8_be) rfl rfl ?_
  refine w_nx (pc' := 1) rfl ?_
  refine w_nx (pc' := 2) rfl ?_
  refine w_put rfl rfl (hT) (by omega) rfl rfl rfl ?_
  refine w_nx (pc' := 6) rfl ?_
  refine w_nx (pc' := 7) rfl ?_
  refine w_put rfl rfl (hT) (by omega) rfl rfl rfl ?_
  refine w_nx (pc' := 11) rfl ?_
  refine w_nx (pc' := 12) rfl ?_
  refine w_put rfl rfl (hT) (by omega) rfl rfl rfl ?_
  refine w_nx (pc' := 16) rfl ?_
  exact w_fin rfl (⟨rfl, rfl⟩)
theorem gbe_get {z : aSt} {p i gl gh : Nat} : gI (gbe z p i gl gh) p 0 = nI i ∧ gR (gbe z p i gl gh) p 1 = some gl ∧ gR (gbe z p i gl gh) p 2 = some gh := by
  refine ⟨?_, ?_, ?_⟩
  · show gI (sI z p 0 (nI i)) p 0 = _
    exact gI_same ..
  · show gR (sR (sR (sI z p 0 (nI i)) p 1 (some gl)) p 2 (some gh)) p 1 = _
    rw [gR_nk (by decide), gR_same]
  · exact gR_same ..
theorem fr_gbe {z : aSt} {p i gl gh : Nat} : fr (fun b => b = p) z (gbe z p i gl gh) := fr_trans (fr_trans (fr_sI fun _ => rfl) (fr_sR fun _ => rfl)) (fr_sR fun _ => rfl)
def gtQ (i : Nat) (l h : Tr) (gts : List Tr) (ps : List Nat) (e c : Nat) (z : aSt) (o : aRes) (z' : aSt) : Prop := ∃ (g : Nat) (gts' : List Tr) (ps' : List Nat) (e' c' : Nat), o = .inl (some (.ref g)) ∧ gq z' gts' ps' e' c' ∧ gAt ps' gts' (nde i l h) g ∧ gR' gts.length z ps e c z' gts'.length ps' e' c' ∧ (∃ s, gts' = gts ++ s ∧ s.length ≤ 1) ∧ ∀ t, t ∈ gts' ↔ t ∈ gts ∨ t = nde i l h
/-- one more Gate -/
theorem x_gateN {d i gl gh e c : Nat} {l h : Tr} {gts : List Tr} {ps : List Nat} {z : aSt} {v4 v5 : Option Value} (hq : gq z gts ps e c) (hT : (gT z 345).1 = 7) (hg : gR z 345 2 = some 348) (h368 : 368 ≤ gZ z) (hi : i < 9) (hl : gAt ps gts l gl) (hh : gAt ps gts h gh) (hn : nde i l h ∉ gts) (h4 : gts.length < 4000) : wR (aEx (d + 6)) aM_X7_gate (gtQ i l h gts ps e c z) 62 [some (.ref 345), some (.int (nI i)), some (.ref gl), some (.ref gh), v4, v5] [] z := by
  have hq0 := hq
  obtain ⟨h1, h2, h3, h4', h5, h6, h7, h8⟩ := hq
  have hTL : (gT z 348).1 = 2 := by rw [h1.1]
  have he345 : e ≠ 345 := fun g => by have := h1.2.2.2.2.2.1; rw [g] at this; rw [this] at hT; cases hT
  have l345 : lv z 345 := by unfold lv; omega
  -- the end: the pool holds the Gate at hand
  have fin : ∀ (z2 : aSt) (ps2 : List Nat) (e2 c2 : Nat), gq z2 gts ps2 e2 c2 → gts.length < ps2.length → (gT z2 345).1 = 7 → gR z2 345 2 = some 348 → 368 ≤ gZ z2 → gR' gts.length z ps e c z2 (gts.length + 1) ps2 e2 c2 → (∃ q, ps2 = ps ++ q) → wR (aEx (d + 6)) aM_X7_gate (gtQ i l h gts ps e c z) 91 [some (.ref 345), some (.int (nI i)), some (.ref gl), some (.ref gh), v4, v5] [] z2 := by
    intro z2 ps2 e2 c2 q2 hlt hT2 hg2 hz2 r2 hps
    obtain ⟨a1, a2, a3, a4, a5, a6, a7, a8⟩ := q2
    have hTL2 : (gT z2 348).1 = 2 := by rw [a1.1]
    have l345' : lv z2 345 := by unfold lv; omega
    have he2 : e2 ≠ 345 := fun g => by have := a1.2.2.2.2.2.1; rw [g] at this; rw [this] at hT2; cases hT2
    have hA : isAL (sI z2 345 3 (nI (gts.length + 1))) 8 348 e2 c2 ps2 := isAL_fr (F := fun b => b = 345) a1 (fr_sI fun _ => rfl) (by decide) (fun g => he2 g)
    refine w_nx (pc' := 92) rfl ?_
    refine w_getR rfl rfl (hT2) (congrArg va_rf (hg2)) rfl ?_
    refine w_nx (pc' := 96) rfl ?_
    refine w_nx (pc' := 97) rfl ?_
    refine w_getI rfl rfl (hT2) rfl rfl ?_
    refine w_top (a2) ?_
    refine w_nx (pc' := 101) rfl ?_
    refine w_nx (pc' := 102) (S' := .int (nI 1) :: _) rfl ?_
    refine w_nx (pc' := 103) rfl ?_
    refine w_top (nI_add _ _) ?_
    refine w_put rfl rfl (hT2) (by omega) rfl rfl rfl ?_
    obtain ⟨o, z3, e3, s1, s2⟩ := j_get (d := d + 3) hA hlt (by omega)
    subst s1
    rw [s2] at e3
    refine w_cal (pc' := 109) rfl (a_cv0 rfl rfl rfl (hTL2) rfl rfl) (e3) ?_
    have hpm := a6 _ (get_mem hlt)
    have hTp : (gT (sI z2 345 3 (nI (gts.length + 1))) (ps2.getD gts.length 0)).1 = 8 := by show (gT z2 _).1 = 8; rw [hpm.1]
    refine w_cast rfl rfl hTp rfl ?_
    refine w_nx (pc' := 113) rfl ?_
    refine w_nx (pc' := 114) rfl ?_
    refine w_nx (pc' := 115) rfl ?_
    obtain ⟨o, z4, e4, k1, k2⟩ := x_gbe (d := d + 5) (i := i) (gl := gl) (gh := gh) hTp (by omega)
    subst k1
    rw [k2] at e4
    refine w_cal (pc' := 118) rfl (a_cv0 rfl rfl rfl (hTp) rfl rfl) (e4) ?_
    have fz : fr (fun b => b = 345 ∨ b = ps2.getD gts.length 0) z2 (gbe (sI z2 345 3 (nI (gts.length + 1))) (ps2.getD gts.length 0) i gl gh) := fr_trans (fr_sI fun _ => .inl rfl) (fr_mono fr_gbe fun b _ g => .inr g)
    have gg := gbe_get (z := sI z2 345 3 (nI (gts.length + 1))) (p := ps2.getD gts.length 0) (i := i) (gl := gl) (gh := gh)
    have k345 : ∀ k, gR (gbe (sI z2 345 3 (nI (gts.length + 1))) (ps2.getD gts.length 0) i gl gh) 345 k = gR z2 345 k := fun k => by
      unfold gbe
      rw [gR_ne (by omega), gR_ne (by omega)]
      rfl
    have i345 : ∀ k, gI (gbe (sI z2 345 3 (nI (gts.length + 1))) (ps2.getD gts.length 0) i gl gh) 345 k = gI (sI z2 345 3 (nI (gts.length + 1))) 345 k := fun k => by
      show gI (sI (sI z2 345 3 (nI (gts.length + 1))) (ps2.getD gts.length 0) 0 (nI i)) 345 k = _
      exact gI_ne (by omega)
    have hS : gS (gbe (sI z2 345 3 (nI (gts.length + 1))) (ps2.getD gts.length 0) i gl gh) = gS z2 := rfl
    have hZ : gZ (gbe (sI z2 345 3 (nI (gts.length + 1))) (ps2.getD gts.length 0) i gl gh) = gZ z2 := rfl
    generalize hzn : gbe (sI z2 345 3 (nI (gts.length + 1))) (ps2.getD gts.length 0) i gl gh = zn at fz gg k345 i345 hS hZ ⊢
    obtain ⟨q, hps⟩ := hps
    have len1 : (gts ++ [nde i l h]).length = gts.length + 1 := List.length_append
    have up : ∀ {t g}, gAt ps2 gts t g → gAt ps2 (gts ++ [nde i l h]) t g := fun a => by
      have := gAt_app (q := []) (s := [nde i l h]) a
      rw [List.append_nil] at this
      exact this
    have up0 : ∀ {t g}, gAt ps gts t g → gAt ps2 (gts ++ [nde i l h]) t g := fun a => by rw [hps]; exact gAt_app a
    have e2p : e2 ≠ ps2.getD gts.length 0 := fun g => by have := a1.2.2.2.2.2.1; rw [g, hpm.1] at this; cases this
    have gdn : (gts ++ [nde i l h]).getD gts.length .leaf = nde i l h := by
      rw [List.getD_eq_getElem?_getD, List.getElem?_append_right (Nat.le_refl _), Nat.sub_self]; rfl
    have offp : ∀ b, b ≠ 345 → b ≠ ps2.getD gts.length 0 → ¬ (b = 345 ∨ b = ps2.getD gts.length 0) := fun b x y g => g.elim x y
    refine w_fin rfl ⟨_, gts ++ [nde i l h], ps2, e2, c2, rfl, ?_, .inr (.inr ⟨gts.length, by omega, hlt, gdn, rfl⟩), ?_, ⟨[nde i l h], rfl, Nat.le_refl _⟩, fun t => ?_⟩
    · refine ⟨isAL_fr a1 fz (offp _ (by decide) (by omega)) (offp _ he2 e2p), ?_, by omega, a4, a5, fun p hp => ?_, ?_, fun k hk => ?_⟩
      · rw [i345 3, gI_same, len1]
      · exact ⟨(fz.2.1 p (a6 p hp).2.1).trans (a6 p hp).1, lv_fr fz (a6 p hp).2.1, (a6 p hp).2.2⟩
      · rw [List.nodup_append]
        refine ⟨a7, List.nodup_cons.mpr ⟨fun h => (by cases h), List.nodup_nil⟩, fun a ha b hb g => ?_⟩
        rw [List.mem_singleton.mp hb] at g
        exact hn (g ▸ ha)
      · rw [len1] at hk
        by_cases ck : k < gts.length
        · obtain ⟨i', l', r', gl', gh', b1, b2, b3, b4, b5, b6, b7⟩ := a8 k ck
          have hne : ps2.getD k 0 ≠ ps2.getD gts.length 0 := nd_get a5 (by omega) hlt (by omega)
          have hpk := a6 _ (get_mem (show k < ps2.length by omega))
          have kk := fz.2.2 _ hpk.2.1 (offp _ (by omega) hne)
          exact ⟨i', l', r', gl', gh', by rw [gdT_app ck]; exact b1, b2, ((kk 0).1).trans b3, ((kk 1).2.2).trans b4, ((kk 2).2.2).trans b5, up b6, up b7⟩
        · have ek : k = gts.length := by omega
          rw [ek]
          exact ⟨i, l, h, gl, gh, gdn, hi, gg.1, gg.2.1, gg.2.2, up0 hl, up0 hh⟩
    · rw [len1]
      obtain ⟨y0, y1, y2, y3, ⟨t, y4, y5⟩, y6, y7, y8, y9⟩ := r2
      refine ⟨y0, fr_old y1 fz ?_, fun k => (k345 k).trans (y2 k), fun k hk => ((i345 k).trans (gI_nk hk)).trans (y3 k hk), ⟨t, y4, y5⟩, y6, y7, by omega, by omega⟩
      intro b hb g
      rcases g with g | g
      · exact .inl g
      · subst g
        by_cases cc : gts.length < ps.length
        · refine .inr (.inr (.inr ⟨gts.length, Nat.le_refl _, cc, cc, ?_⟩))
          rw [y4, gd_left cc]
        · rw [y4] at hlt hb
          have := y5 _ (gd_right (by omega) hlt)
          unfold lv at hb
          omega
    · rw [List.mem_append, List.mem_singleton]
  refine w_nx (pc' := 63) rfl ?_
  refine w_getI rfl rfl (hT) rfl rfl ?_
  refine w_top (h2) ?_
  refine w_nx (pc' := 67) rfl ?_
  refine w_getR rfl rfl (hT) (congrArg va_rf (hg)) rfl ?_
  obtain ⟨o, z1, e1, q1, q2⟩ := (j_size (d := d + 5) h1)
  subst q1
  rw [q2] at e1
  refine w_cal (pc' := 73) rfl (a_cv0 rfl rfl rfl (hTL) rfl rfl) (e1) ?_
  refine w_ncne rfl rfl rfl rfl rfl (by omega) (by omega) (fun hb => ?_) (fun hb => ?_)
  · refine fin z ps e c hq0 (by omega) hT hg h368 (gR_refl (Nat.le_succ _)) ⟨[], (List.append_nil ps).symm⟩
  · refine w_nx (pc' := 77) rfl ?_
    refine w_getR rfl rfl (hT) (congrArg va_rf (hg)) rfl ?_
    refine w_nx (pc' := 83) rfl ?_
    refine w_nx (pc' := 84) rfl ?_
    have hT1 : gT (aNew z 8 0 4) (100 + gZ z) = (8, 0) := if_pos rfl
    obtain ⟨o, z1, e1, q1, q2⟩ := (x_ginit (d := d + 5) (z := aNew z 8 0 4) (p := 100 + gZ z))
    subst q1
    rw [q2] at e1
    refine w_cal (pc' := 87) rfl (rfl) (e1) ?_
    have f1 : fr (fun _ => False) z (aNew z 8 0 4) := fr_new
    generalize hz1 : aNew z 8 0 4 = z1 at hT1 f1 ⊢
    have g4 : gZ z1 = gZ z + 1 := by rw [← hz1]; rfl
    have g5 : gS z1 = gS z + 4 := by rw [← hz1]; rfl
    have hA1 : isAL z1 8 348 e c ps := isAL_fr h1 f1 (fun g => g) (fun g => g)
    have hln : lv z1 (100 + gZ z) := by unfold lv; omega
    have hTL1 : (gT z1 348).1 = 2 := by rw [hA1.1]
    obtain ⟨o, z2, e2, e', c', r1, r2, r3, r4, r5, r6⟩ := (j_add (d := d) hA1 (p := 100 + gZ z) rfl (by omega) (by rw [hT1]) hln)
    subst r1
    refine w_cal (pc' := 90) rfl (a_cv0 rfl rfl rfl (hTL1) rfl rfl) (e2) ?_
    refine w_nx (pc' := 91) rfl ?_
    have hne : ¬ (345 = 348 ∨ 345 = e) := fun g => g.elim (by decide) fun g => he345 g.symm
    have hk : ∀ k, gR z2 345 k = gR z 345 k := fun k => ((r3.2.2 345 (lv_fr f1 l345) hne k).2.2).trans (f1.2.2 345 l345 (fun g => g) k).2.2
    have hki : ∀ k, gI z2 345 k = gI z 345 k := fun k => ((r3.2.2 345 (lv_fr f1 l345) hne k).1).trans (f1.2.2 345 l345 (fun g => g) k).1
    have hTa : (gT z2 345).1 = 7 := by rw [r3.2.1 345 (lv_fr f1 l345), f1.2.1 345 l345]; exact hT
    have hlen : (ps ++ [100 + gZ z]).length = ps.length + 1 := by rw [List.length_append]; rfl
    have hzz := r3.1
    refine fin z2 (ps ++ [100 + gZ z]) e' c' ⟨r2, (hki 3).trans h2, by omega, by omega, ?_, fun p hp => ?_, h7, fun k hk' => ?_⟩ (by omega) hTa ((hk 2).trans hg) (by omega) ⟨Nat.le_succ _, ?_, hk, fun k _ => hki k, ⟨_, rfl, (fun r hr => Nat.le_of_eq (List.mem_singleton.mp hr).symm)⟩, ?_, by omega, by omega, by omega⟩ ⟨_, rfl⟩
    · rw [List.nodup_append]
      refine ⟨h5, List.nodup_cons.mpr ⟨fun h => (by cases h), List.nodup_nil⟩, fun a ha b hb g => ?_⟩
      rw [List.mem_singleton.mp hb] at g
      have := (h6 a ha).2.1
      unfold lv at this
      omega
    · rcases List.mem_append.mp hp with g | g
      · exact ⟨(r3.2.1 p (lv_fr f1 (h6 p g).2.1)).trans ((f1.2.1 p (h6 p g).2.1).trans (h6 p g).1), lv_fr r3 (lv_fr f1 (h6 p g).2.1), (h6 p g).2.2⟩
      · rw [List.mem_singleton.mp g]
        exact ⟨(r3.2.1 _ hln).trans hT1, lv_fr r3 hln, by omega⟩
    · obtain ⟨i', l', r', gl', gh', b1, b2, b3, b4, b5, b6, b7⟩ := h8 k hk'
      have hkp : k < ps.length := by omega
      rw [gd_left hkp]
      have hpk := h6 _ (get_mem hkp)
      have hpe : ps.getD k 0 ≠ e := fun g => by have := h1.2.2.2.2.2.1; rw [← g, hpk.1] at this; cases this
      have k1 := r3.2.2 _ (lv_fr f1 hpk.2.1) (fun g => g.elim (by omega) hpe)
      have k0 := f1.2.2 _ hpk.2.1 (fun g => g)
      have up : ∀ {t g}, gAt ps gts t g → gAt (ps ++ [100 + gZ z]) gts t g := fun a => by
        have := gAt_app (q := [100 + gZ z]) (s := []) a
        rw [List.append_nil] at this
        exact this
      exact ⟨i', l', r', gl', gh', b1, b2, ((k1 0).1).trans (((k0 0).1).trans b3), ((k1 1).2.2).trans (((k0 1).2.2).trans b4), ((k1 2).2.2).trans (((k0 2).2.2).trans b5), up b6, up b7⟩
    · exact fr_old (F := gtF gts.length ps e) (fr_mono f1 fun _ _ g => g.elim) r3 fun b _ g => g.elim (fun g => .inr (.inl g)) fun g => .inr (.inr (.inl g))
    · rcases r4 with g | g
      · exact .inl g
      · exact .inr (by omega)
theorem x_gateL {d i gl gh e c : Nat} {l h : Tr} {gts : List Tr} {ps : List Nat} {z : aSt} (hq : gq z gts ps e c) (hT : (gT z 345).1 = 7) (hg : gR z 345 2 = some 348) (h368 : 368 ≤ gZ z) (hi : i < 9) (hl : gAt ps gts l gl) (hh : gAt ps gts h gh) (h4 : gts.length < 4000) : ∀ (m k : Nat) (v5 : Option Value), m + k = gts.length → (∀ j, j < k → gts.getD j .leaf ≠ nde i l h) → wR (aEx (d + 6)) aM_X7_gate (gtQ i l h gts ps e c z) 3 [some (.ref 345), some (.int (nI i)), some (.ref gl), some (.ref gh), some (.int (nI k)), v5] [] z := by
  have hq0 := hq
  obtain ⟨h1, h2, h3, h4', h5, h6, h7, h8⟩ := hq
  have hTL : (gT z 348).1 = 2 := by rw [h1.1]
  intro m
  induction m with
  | zero =>
    intro k v5 hk hne
    refine w_nx (pc' := 5) rfl ?_
    refine w_nx (pc' := 6) rfl ?_
    refine w_getI rfl rfl (hT) rfl rfl ?_
    refine w_top (h2) ?_
    refine w_ncge rfl rfl rfl (rfl) (rfl) (by omega) (by omega) (fun hb => ?_) (fun hb => ?_)
    · refine x_gateN hq0 hT hg h368 hi hl hh (fun hm => ?_) h4
      obtain ⟨j, hj, e⟩ := gdT_mem2 hm
      exact hne j (by omega) e
    · omega
  | succ m ih =>
    intro k v5 hk hne
    have hkl : k < gts.length := by omega
    obtain ⟨i', l', r', gl', gh', b1, b2, b3, b4, b5, b6, b7⟩ := h8 k hkl
    have hpk := h6 _ (get_mem (show k < ps.length by omega))
    have hTp : (gT z (ps.getD k 0)).1 = 8 := by rw [hpk.1]
    have next : nde i' l' r' ≠ nde i l h → ∀ v5, wR (aEx (d + 6)) aM_X7_gate (gtQ i l h gts ps e c z) 56 [some (.ref 345), some (.int (nI i)), some (.ref gl), some (.ref gh), some (.int (nI k)), v5] [] z := by
      intro hn v5
      refine w_iinc rfl rfl (nI_1 _) rfl rfl ?_
      refine w_nx (pc' := 3) rfl ?_
      refine ih (k + 1) v5 (by omega) fun j hj => ?_
      by_cases cj : j = k
      · rw [cj, b1]; exact hn
      · exact hne j (by omega)
    refine w_nx (pc' := 5) rfl ?_
    refine w_nx (pc' := 6) rfl ?_
    refine w_getI rfl rfl (hT) rfl rfl ?_
    refine w_top (h2) ?_
    refine w_ncge rfl rfl rfl (rfl) (rfl) (by omega) (by omega) (fun hb => ?_) (fun hb => ?_)
    · omega
    · refine w_nx (pc' := 13) rfl ?_
      refine w_getR rfl rfl (hT) (congrArg va_rf (hg)) rfl ?_
      refine w_nx (pc' := 18) rfl ?_
      obtain ⟨o, z3, e3, s1, s2⟩ := j_get (d := d + 3) h1 (show k < ps.length by omega) (by omega)
      subst s1
      rw [s2] at e3
      refine w_cal (pc' := 21) rfl (a_cv0 rfl rfl rfl (hTL) rfl rfl) (e3) ?_
      refine w_cast rfl rfl hTp rfl ?_
      refine w_nx (pc' := 26) rfl ?_
      refine w_nx (pc' := 28) rfl ?_
      refine w_getI rfl rfl (hTp) rfl rfl ?_
      refine w_top (b3) ?_
      refine w_nx (pc' := 32) rfl ?_
      refine w_ncne rfl rfl rfl (rfl) (rfl) (by omega) (by omega) (fun hne1 => ?_) (fun hne1 => ?_)
      · exact next (fun g => hne1 (nde_inj g).1) _
      · refine w_nx (pc' := 37) rfl ?_
        refine w_getR rfl rfl (hTp) (congrArg va_rf (b4)) rfl ?_
        refine w_nx (pc' := 41) rfl ?_
        refine w_an (u := some gl') (v := some gl) rfl rfl rfl (acmp_ge (Nat.le_trans (by decide) (gAt_ge hq0 b6)) (Nat.le_trans (by decide) (gAt_ge hq0 hl))) (fun g => ?_) (fun g => ?_)
        · exact next (fun q => g (by rw [(gAt_eq hq0 b6 hl).mpr (nde_inj q).2.1])) _
        · refine w_nx (pc' := 46) rfl ?_
          refine w_getR rfl rfl (hTp) (congrArg va_rf (b5)) rfl ?_
          refine w_nx (pc' := 50) rfl ?_
          refine w_an (u := some gh') (v := some gh) rfl rfl rfl (acmp_ge (Nat.le_trans (by decide) (gAt_ge hq0 b7)) (Nat.le_trans (by decide) (gAt_ge hq0 hh))) (fun g2 => ?_) (fun g2 => ?_)
          · exact next (fun q => g2 (by rw [(gAt_eq hq0 b7 hh).mpr (nde_inj q).2.2])) _
          · have el : l' = l := (gAt_eq hq0 b6 hl).mp (Option.some.inj g)
            have er : r' = h := (gAt_eq hq0 b7 hh).mp (Option.some.inj g2)
            have ei : i' = i := by omega
            rw [el, er, ei] at b1
            refine w_nx (pc' := 55) rfl ?_
            exact w_fin rfl ⟨_, gts, ps, e, c, rfl, hq0, .inr (.inr ⟨k, hkl, by omega, b1, rfl⟩), gR_refl (Nat.le_refl _), ⟨[], (List.append_nil gts).symm, Nat.zero_le _⟩, fun t => ⟨.inl, fun g => g.elim (fun g => g) fun g => by rw [g, ← b1]; exact gdT_mem hkl⟩⟩
theorem x_gate {d i gl gh e c : Nat} {l h : Tr} {gts : List Tr} {ps : List Nat} {z : aSt} (hq : gq z gts ps e c) (hT : (gT z 345).1 = 7) (hg : gR z 345 2 = some 348) (h368 : 368 ≤ gZ z) (hi : i < 9) (hl : gAt ps gts l gl) (hh : gAt ps gts h gh) (h4 : gts.length < 4000) : aW (d + 7) 82 [.ref 345, .int (nI i), .ref gl, .ref gh] z (gtQ i l h gts ps e c z) := by
  refine w_of (k := 82) (m := aM_X7_gate) rfl rfl ?_
  refine w_nx (pc' := 1) (S' := .int (nI 0) :: _) rfl ?_
  refine w_nx (pc' := 3) rfl ?_
  exact x_gateL hq hT hg h368 hi hl hh h4 gts.length 0 _ rfl (fun j hj => absurd hj (by omega))
