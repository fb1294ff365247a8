/-! TraceWarden.reach -/
set_option maxRecDepth 100000
/-- the TraceWarden's cells that never change -/
def twS (z : aSt) : Prop := gT z 100 = (0, 0) ∧ 368 ≤ gZ z ∧ (gR z 100 0 = some 101 ∧ gR z 100 1 = some 104 ∧ gR z 100 2 = some 256 ∧ gR z 100 4 = some 257 ∧ gR z 100 5 = some 258 ∧ gR z 100 6 = some 259 ∧ gR z 100 7 = some 260 ∧ gR z 100 8 = some 261 ∧ gR z 100 9 = some 263 ∧ gR z 100 10 = some 345 ∧ gR z 100 14 = some 350) ∧ (gT z 256 = (46, 40) ∧ gT z 257 = (40, 320) ∧ gT z 258 = (40, 40) ∧ gT z 259 = (40, 40) ∧ gT z 260 = (40, 40) ∧ gT z 350 = (43, 60)) ∧ ∀ i, i < 40 → gR z 256 i = some (351 + 2 * i)
theorem twS_of {z z' : aSt} (h : twS z) (hz : gZ z ≤ gZ z') (hT : ∀ b, b < 468 → gT z' b = gT z b) (h100 : ∀ k, k ≠ 16 → k ≠ 19 → gR z' 100 k = gR z 100 k) (h256 : ∀ k, gR z' 256 k = gR z 256 k) : twS z' := by
  obtain ⟨h1, h2, ⟨a0, a1, a2, a4, a5, a6, a7, a8, a9, a10, a14⟩, ⟨b1, b2, b3, b4, b5, b6⟩, h5⟩ := h
  have k : ∀ k, k ≠ 16 → k ≠ 19 → ∀ {v}, gR z 100 k = v → gR z' 100 k = v := fun k x y v e => (h100 k x y).trans e
  have t : ∀ b, b < 468 → ∀ {v}, gT z b = v → gT z' b = v := fun b x v e => (hT b x).trans e
  exact ⟨t _ (by decide) h1, Nat.le_trans h2 hz, ⟨k _ (by decide) (by decide) a0, k _ (by decide) (by decide) a1, k _ (by decide) (by decide) a2, k _ (by decide) (by decide) a4, k _ (by decide) (by decide) a5, k _ (by decide) (by decide) a6, k _ (by decide) (by decide) a7, k _ (by decide) (by decide) a8, k _ (by decide) (by decide) a9, k _ (by decide) (by decide) a10, k _ (by decide) (by decide) a14⟩, ⟨t _ (by decide) b1, t _ (by decide) b2, t _ (by decide) b3, t _ (by decide) b4, t _ (by decide) b5, t _ (by decide) b6⟩, fun i hi => (h256 i).trans (h5 i hi)⟩
theorem twS_lv {z : aSt} (h : twS z) {b : Nat} (hb : b < 468) : lv z b := by
  have := h.2.1
  unfold lv
  omega
/-- what reach writes -/
def rcX : Nat → Prop := fun b => b = 100 ∨ b = 257 ∨ b = 261 ∨ b = 262 ∨ (351 ≤ b ∧ b < 431)
/-- the Duties when reach begins: obligation v asks G v l -/
def dutR (z : aSt) (many : Nat) (G : Nat → Nat → Nat → Prop) : Prop := gT z 104 = (3, 0) ∧ gI z 104 0 = nI many ∧ many ≤ 9 ∧ gR z 104 6 = some 110 ∧ gT z 110 = (46, 72) ∧ (∀ i, i < 72 → gR z 110 i = some (112 + 2 * i)) ∧ ∀ v l, v < many → l < 8 → isRow z (112 + 2 * (8 * v + l)) (G v l)
/-- behind some steps: conditions ws, leads to -/
def rcS (many : Nat) (G : Nat → Nat → Nat → Prop) (rs : List Nat) (e c : Nat) (z : aSt) (ws : List (List Nat)) (to : List Nat) (rs1 : List Nat) (e1 c1 : Nat) (z1 : aSt) : Prop :=
  gI z1 100 3 = nI ws.length ∧ 1 ≤ ws.length ∧ ws.length ≤ 40 ∧ to.length ≤ 8 * ws.length ∧ (∀ i, i < ws.length → isRow z1 (351 + 2 * i) (cw many G (ws.getD i []))) ∧ (∀ i, i < to.length → gI z1 257 i = nI (to.getD i 0)) ∧ (∀ j ∈ to, j < ws.length) ∧ rowOk z1 261 ∧ (∀ i, i < 40 → rowOk z1 (351 + 2 * i)) ∧ pl z1 0 rs1 e1 c1 ∧ pR 0 rcX z rs e c z1 rs1 e1 c1 ∧ rs1.length ≤ max rs.length 2 ∧ (∀ k, gR z1 100 k = gR z 100 k) ∧ ∀ k, k ≠ 3 → gI z1 100 k = gI z 100 k
theorem rcX_off {b : Nat} (h : 112 ≤ b) (h2 : b < 256) : ¬ rcX b := by unfold rcX; omega
theorem rc_tw {many : Nat} {G : Nat → Nat → Nat → Prop} {rs : List Nat} {e c : Nat} {z : aSt} {ws : List (List Nat)} {to : List Nat} {rs1 : List Nat} {e1 c1 : Nat} {z1 : aSt} (h : twS z) (hp : pl z 0 rs e c) (s : rcS many G rs e c z ws to rs1 e1 c1 z1) : twS z1 := by
  obtain ⟨s1, s2, s3, s4, s5, s6, s7, s8, s9, s10, s11, s12, s13, s14⟩ := s
  have f := s11.1
  refine twS_of h f.1 (fun b hb => f.2.1 b (twS_lv h hb)) (fun k _ _ => s13 k) fun k => (f.2.2 256 (twS_lv h (by decide)) ?_ k).2.2
  rintro (g | (g | g | ⟨i, g1, g2, g3⟩) | g)
  · cases g
  · cases g
  · have := hp.1.2.2.2.2.2.1
    rw [← g, h.2.2.2.1.1] at this
    cases this
  · have := (hp.2.2.2.2.2.2.2.2 _ (get_mem g2)).2.1
    rcases g3 with g3 | g3 <;> omega
  · unfold rcX at g; omega
theorem rc_dut {many : Nat} {G : Nat → Nat → Nat → Prop} {rs : List Nat} {e c : Nat} {z : aSt} {ws : List (List Nat)} {to : List Nat} {rs1 : List Nat} {e1 c1 : Nat} {z1 : aSt} (h : twS z) (hd : dutR z many G) (hp : pl z 0 rs e c) (s : rcS many G rs e c z ws to rs1 e1 c1 z1) : dutR z1 many G := by
  obtain ⟨s1, s2, s3, s4, s5, s6, s7, s8, s9, s10, s11, s12, s13, s14⟩ := s
  obtain ⟨d1, d2, d3, d4, d5, d6, d7⟩ := hd
  have f := s11.1
  have n110 : ¬ (110 = 104 ∨ plF 0 rs e 110 ∨ rcX 110) := by
    rintro (g | (g | g | ⟨i, g1, g2, g3⟩) | g)
    · cases g
    · cases g
    · have := hp.1.2.2.2.2.2.1
      rw [← g, d5] at this
      cases this
    · have := (hp.2.2.2.2.2.2.2.2 _ (get_mem g2)).2.1
      rcases g3 with g3 | g3 <;> omega
    · unfold rcX at g; omega
  refine ⟨(f.2.1 104 (twS_lv h (by decide))).trans d1, (s11.2.1.2 0 (by decide)).trans d2, d3, (s11.2.1.1 6).trans d4, (f.2.1 110 (twS_lv h (by decide))).trans d5, fun i hi => ((f.2.2 110 (twS_lv h (by decide)) n110 i).2.2).trans (d6 i hi), fun v l hv hl => ?_⟩
  refine pR_keep hp s11 (d7 v l hv hl) (twS_lv h (by omega)) (fun b hb => rcX_off ?_ ?_) (pl_off hp (by omega))
  · rcases hb with g | g <;> omega
  · rcases hb with g | g <;> omega
def reachQ (many : Nat) (G : Nat → Nat → Nat → Prop) (rs : List Nat) (e c : Nat) (z : aSt) (r : Option (List (List Nat) × List Nat)) (o : aRes) (z' : aSt) : Prop := match r with
  | some q => o = .inl none ∧ q.2.length = 8 * q.1.length ∧ ∃ (rs1 : List Nat) (e1 c1 : Nat), rcS many G rs e c z q.1 q.2 rs1 e1 c1 z'
  | none => ∃ (ws : List (List Nat)) (to rs1 : List Nat) (e1 c1 : Nat) (z1 : aSt), rcS many G rs e c z ws to rs1 e1 c1 z1 ∧ z' = aNew z1 14 0 6 ∧ o = .inr (100 + gZ z1)
theorem x_reachJ {d many k x p : Nat} {G : Nat → Nat → Nat → Prop} {ws : List (List Nat)} {w : List Nat} {z : aSt} {Q : aRes → aSt → Prop} (hw : twS z) (h3 : gI z 100 3 = nI ws.length) (h40 : ws.length ≤ 40) (hr : ∀ i, i < ws.length → isRow z (351 + 2 * i) (cw many G (ws.getD i []))) (hs : isRow z 261 (cw many G w)) (hQ : wR (aEx (d + 1)) aM_X1_reach Q 91 [some (.ref 100), some (.ref p), some (.int (nI k)), some (.int (nI x)), some (.int (nI (fi (fun u => eqC many G u w) ws)))] [] z) : ∀ (n j : Nat), n + j = ws.length → (∀ i (hi : i < ws.length), i < j → eqC many G ws[i] w = false) → wR (aEx (d + 1)) aM_X1_reach Q 59 [some (.ref 100), some (.ref p), some (.int (nI k)), some (.int (nI x)), some (.int (nI j))] [] z := by
  have hT : (gT z 100).1 = 0 := by rw [hw.1]
  intro n
  induction n with
  | zero =>
    intro j hj hn
    have e : fi (fun u => eqC many G u w) ws = j := fi_eq hn (by omega) (fun h => by omega)
    rw [e] at hQ
    refine w_nx (pc' := 61) rfl ?_
    refine w_nx (pc' := 62) rfl ?_
    refine w_getI rfl rfl (hT) rfl rfl ?_
    refine w_top (h3) ?_
    refine w_ncge rfl rfl rfl (rfl) (rfl) (by omega) (by omega) (fun hb => ?_) (fun hb => ?_)
    · exact hQ
    · omega
  | succ n ih =>
    intro j hj hn
    have hjl : j < ws.length := by omega
    have hgd : ws.getD j [] = ws[j] := by rw [List.getD_eq_getElem?_getD, List.getElem?_eq_getElem hjl]; rfl
    have hrj := hr j hjl
    have hTj : (gT z (351 + 2 * j)).1 = 4 := by rw [(isRow_ok hrj).1]
    refine w_nx (pc' := 61) rfl ?_
    refine w_nx (pc' := 62) rfl ?_
    refine w_getI rfl rfl (hT) rfl rfl ?_
    refine w_top (h3) ?_
    refine w_ncge rfl rfl rfl (rfl) (rfl) (by omega) (by omega) (fun hb => ?_) (fun hb => ?_)
    · omega
    · refine w_nx (pc' := 69) rfl ?_
      refine w_getR rfl rfl (hT) (congrArg va_rf (hw.2.2.1.2.2.1)) rfl ?_
      refine w_nx (pc' := 74) rfl ?_
      refine w_ald rfl (fun _ _ _ _ _ _ => rfl) (hw.2.2.2.1.1) rfl (rfl) (by omega) (by decide) (congrArg va_rf (hw.2.2.2.2 j (by omega))) rfl ?_
      refine w_nx (pc' := 76) rfl ?_
      refine w_getR rfl rfl (hT) (congrArg va_rf (hw.2.2.1.2.2.2.2.2.2.2.1)) rfl ?_
      obtain ⟨o, z1, e1, q1, ⟨q2, q3⟩ | ⟨q2, q3⟩⟩ := x_same (d := d) hrj hs
      · subst q2
        rw [q1] at e1
        refine w_cal (pc' := 82) rfl (a_cv0 rfl rfl rfl (hTj) rfl rfl) (e1) ?_
        have e : fi (fun u => eqC many G u w) ws = j := fi_eq hn (by omega) (fun h => by rw [eqC_t]; rw [hgd] at q3; exact q3)
        rw [e] at hQ
        exact w_ifne rfl rfl rfl (fun _ => hQ) (fun g => absurd (show ¬ (1 : Int32) = 0 by decide) g)
      · subst q2
        rw [q1] at e1
        refine w_cal (pc' := 82) rfl (a_cv0 rfl rfl rfl (hTj) rfl rfl) (e1) ?_
        refine w_ifne rfl rfl rfl (fun g => absurd rfl g) (fun _ => ?_)
        refine w_iinc rfl rfl (nI_1 _) rfl rfl ?_
        refine w_nx (pc' := 59) rfl ?_
        refine ih (j + 1) (by omega) fun i hi h1 => ?_
        by_cases c : i = j
        · subst c
          rw [eqC_f]
          rw [hgd] at q3
          exact q3
        · exact hn i hi (by omega)
