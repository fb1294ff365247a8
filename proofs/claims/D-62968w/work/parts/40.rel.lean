/-! Work with the pool: how it goes on -/
set_option maxRecDepth 100000
/-- from z, where rs are the pool's rows (array e, of c places), to z': rows from the n-th on may be written, and the cells X -/
def pR (n : Nat) (X : Nat → Prop) (z : aSt) (rs : List Nat) (e c : Nat) (z' : aSt) (rs' : List Nat) (e' c' : Nat) : Prop :=
  fr (fun b => b = 104 ∨ plF n rs e b ∨ X b) z z' ∧ ((∀ k, gR z' 104 k = gR z 104 k) ∧ ∀ k, k ≠ 8 → gI z' 104 k = gI z 104 k) ∧ (∃ t, rs' = rs ++ t ∧ ∀ r ∈ t, 100 + gZ z ≤ r) ∧ (e' = e ∨ 100 + gZ z ≤ e') ∧ gZ z' + 3 * rs.length ≤ gZ z + 3 * rs'.length ∧ gS z' + 4 * c + 130 * rs.length ≤ gS z + 4 * c' + 130 * rs'.length
theorem gd_left {l t : List Nat} {i : Nat} (h : i < l.length) : (l ++ t).getD i 0 = l.getD i 0 := by rw [gd_app, if_pos h]
theorem gd_right {l t : List Nat} {i : Nat} (h : l.length ≤ i) (h2 : i < (l ++ t).length) : (l ++ t).getD i 0 ∈ t := by
  rw [gd_app, if_neg (by omega)]
  rw [List.length_append] at h2
  exact get_mem (by omega)
theorem pR_trans {n : Nat} {X : Nat → Prop} {z z1 z2 : aSt} {rs rs1 rs2 : List Nat} {e c e1 c1 e2 c2 : Nat} (h : pR n X z rs e c z1 rs1 e1 c1) (g : pR n X z1 rs1 e1 c1 z2 rs2 e2 c2) : pR n X z rs e c z2 rs2 e2 c2 := by
  obtain ⟨a1, a2, ⟨t, a3, a4⟩, a5, a6, a7⟩ := h
  obtain ⟨b1, b2, ⟨t', b3, b4⟩, b5, b6, b7⟩ := g
  have hz := a1.1
  refine ⟨fr_old a1 b1 ?_, ⟨fun k => (b2.1 k).trans (a2.1 k), fun k hk => (b2.2 k hk).trans (a2.2 k hk)⟩, ⟨t ++ t', by rw [b3, a3, List.append_assoc], fun r hr => ?_⟩, ?_, by omega, by omega⟩
  · intro b hb g
    rcases g with g | (g | g | ⟨i, g1, g2, g3⟩) | g
    · exact .inl g
    · exact .inr (.inl (.inl g))
    · rcases a5 with q | q
      · exact .inr (.inl (.inr (.inl (g.trans q))))
      · unfold lv at hb; omega
    · by_cases c : i < rs.length
      · refine .inr (.inl (.inr (.inr ⟨i, g1, c, ?_⟩)))
        rw [a3, gd_left c] at g3
        exact g3
      · rw [a3] at g2 g3
        have := a4 _ (gd_right (by omega) g2)
        unfold lv at hb
        rcases g3 with g3 | g3 <;> omega
    · exact .inr (.inr g)
  · rcases List.mem_append.mp hr with g | g
    · exact a4 r g
    · have := b4 r g; omega
  · rcases b5 with g | g
    · rw [g]; exact a5
    · exact .inr (by omega)
theorem pR_refl {n : Nat} {X : Nat → Prop} {z : aSt} {rs : List Nat} {e c : Nat} : pR n X z rs e c z rs e c := ⟨fr_refl z, ⟨fun _ => rfl, fun _ _ => rfl⟩, ⟨[], (List.append_nil rs).symm, fun r hr => (by cases hr)⟩, .inl rfl, Nat.le_refl _, Nat.le_refl _⟩
theorem pR_mono {n m : Nat} {X Y : Nat → Prop} {z z1 : aSt} {rs rs1 : List Nat} {e c e1 c1 : Nat} (h : pR n X z rs e c z1 rs1 e1 c1) (hn : m ≤ n) (hX : ∀ b, X b → Y b ∨ plF m rs e b) : pR m Y z rs e c z1 rs1 e1 c1 := by
  obtain ⟨a1, a2⟩ := h
  refine ⟨fr_mono a1 fun b _ g => ?_, a2⟩
  rcases g with g | (g | g | ⟨i, g1, g2, g3⟩) | g
  · exact .inl g
  · exact .inr (.inl (.inl g))
  · exact .inr (.inl (.inr (.inl g)))
  · exact .inr (.inl (.inr (.inr ⟨i, by omega, g2, g3⟩)))
  · rcases hX b g with q | q
    · exact .inr (.inr q)
    · exact .inr (.inl q)
/-- a row is written -/
theorem pR_row {n : Nat} {X : Nat → Prop} {z z1 : aSt} {rs : List Nat} {e c r : Nat} (f : frI (rF r) z z1) (h : (∃ i, n ≤ i ∧ i < rs.length ∧ rs.getD i 0 = r) ∨ ∀ b, rF r b → X b) (hD : ¬ rF r 104) : pR n X z rs e c z1 rs e c := by
  refine ⟨fr_mono f.fr fun b _ g => ?_, ⟨fun k => by rw [f.2.2.1], fun k _ => f.2.2.2.2.2 104 hD k⟩, ⟨[], (List.append_nil rs).symm, fun r hr => (by cases hr)⟩, .inl rfl, by rw [f.2.2.2.1]; exact Nat.le_refl _, by rw [f.2.2.2.2.1]; exact Nat.le_refl _⟩
  rcases h with ⟨i, h1, h2, h3⟩ | h
  · exact .inr (.inl (.inr (.inr ⟨i, h1, h2, by rw [h3]; exact g⟩)))
  · exact .inr (.inr (h b g))
/-- the count of rows lent is written -/
theorem pR_lent {n : Nat} {X : Nat → Prop} {z : aSt} {rs : List Nat} {e c : Nat} {v : Int32} : pR n X z rs e c (sI z 104 8 v) rs e c :=
  ⟨fr_sI fun _ => .inl rfl, ⟨fun _ => rfl, fun _ hk => gI_nk hk⟩, ⟨[], (List.append_nil rs).symm, fun r hr => (by cases hr)⟩, .inl rfl, Nat.le_refl _, Nat.le_refl _⟩
theorem pl_row {n : Nat} {z z1 : aSt} {rs : List Nat} {e c r : Nat} (h : pl z n rs e c) (f : frI (rF r) z z1) (hr : rowOk z r) : pl z1 n rs e c := by
  obtain ⟨h1, h2, h3, h4, h5, h6, h7, h8, h9⟩ := h
  have n1 : ∀ b, (gT z b).1 ≠ 4 → (gT z b).1 ≠ 40 → ¬ rF r b := fun b g1 g2 g => by
    rcases g with g | g
    · rw [g, hr.1] at g1; exact g1 rfl
    · rw [g, hr.2.2.1] at g2; exact g2 rfl
  have na := n1 111 (by rw [h1.1]; decide) (by rw [h1.1]; decide)
  have ne := n1 e (by rw [h1.2.2.2.2.2.1]; show 49 ≠ 4; decide) (by rw [h1.2.2.2.2.2.1]; show 49 ≠ 40; decide)
  have nd := n1 104 (by rw [h2]; decide) (by rw [h2]; decide)
  refine ⟨isAL_fr h1 f.fr na ne, by rw [f.1]; exact h2, lv_fr f.fr h3, by rw [f.2.2.1]; exact h4, by rw [f.2.2.2.2.2 104 nd]; exact h5, h6, h7, h8, fun q hq => ⟨rowOk_fr (h9 q hq).1 f, (h9 q hq).2.1, lv_fr f.fr (h9 q hq).2.2⟩⟩
theorem pl_lent {n m : Nat} {z : aSt} {rs : List Nat} {e c : Nat} (h : pl z n rs e c) (hm : m ≤ rs.length) : pl (sI z 104 8 (nI m)) m rs e c := by
  obtain ⟨h1, h2, h3, h4, h5, h6, h7, h8, h9⟩ := h
  have he104 : e ≠ 104 := fun g => by rw [← g, h1.2.2.2.2.2.1] at h2; cases h2
  exact ⟨isAL_fr (F := fun b => b = 104) h1 (fr_sI fun _ => rfl) (by decide) he104, h2, h3, h4, gI_same .., hm, h7, h8, h9⟩
/-- the memory z agrees with z0 but for rows, lists and the count of rows lent -/
def agr (z0 z : aSt) : Prop := gZ z0 ≤ gZ z ∧ (∀ b, lv z0 b → gT z b = gT z0 b) ∧ ∀ b, lv z0 b → (gT z0 b).1 ≠ 2 → (gT z0 b).1 ≠ 4 → (gT z0 b).1 ≠ 49 → gT z0 b ≠ (40, 128) → ∀ k, (b = 104 → k ≠ 8) → gI z b k = gI z0 b k ∧ gR z b k = gR z0 b k
theorem agr_lv {z0 z : aSt} (h : agr z0 z) {b : Nat} (hb : lv z0 b) : lv z b := Nat.lt_of_lt_of_le hb (Nat.add_le_add_left h.1 100)
theorem agr_pR {n : Nat} {X : Nat → Prop} {z0 z z1 : aSt} {rs rs1 : List Nat} {e c e1 c1 m : Nat} (h : agr z0 z) (p : pl z m rs e c) (f : pR n X z rs e c z1 rs1 e1 c1) (hX : ∀ b, lv z0 b → X b → (gT z b).1 = 4 ∨ gT z b = (40, 128)) : agr z0 z1 := by
  obtain ⟨f1, f2, _⟩ := f
  refine ⟨Nat.le_trans h.1 f1.1, fun b hb => (f1.2.1 b (agr_lv h hb)).trans (h.2.1 b hb), fun b hb q1 q2 q3 q4 k hk => ?_⟩
  have a1 := h.2.2 b hb q1 q2 q3 q4 k hk
  by_cases hd : b = 104
  · subst hd
    exact ⟨(f2.2 k (hk rfl)).trans a1.1, (f2.1 k).trans a1.2⟩
  · have hF : ¬ (b = 104 ∨ plF n rs e b ∨ X b) := by
      rw [← h.2.1 b hb] at q1 q2 q3 q4
      rintro (g | (g | g | ⟨i, g1, g2, g3⟩) | g)
      · exact hd g
      · exact q1 (by rw [g, p.1.1])
      · exact q3 (by rw [g, p.1.2.2.2.2.2.1])
      · have hr := (p.2.2.2.2.2.2.2.2 _ (get_mem g2)).1
        rcases g3 with g3 | g3
        · exact q2 (by rw [g3, hr.1])
        · exact q4 (by rw [g3, hr.2.2.1])
      · rcases hX b hb g with g | g
        · exact q2 g
        · exact q4 g
    have a2 := f1.2.2 b (agr_lv h hb) hF k
    exact ⟨a2.1.trans a1.1, a2.2.2.trans a1.2⟩
theorem x_lendR {d n e c : Nat} {rs : List Nat} {z : aSt} (X : Nat → Prop) (h : pl z n rs e c) (hn : n ≤ 900) (hZ : 368 ≤ gZ z) : aW (d + 7) 61 [.ref 104] z (fun o z' => ∃ (rs' : List Nat) (e' c' : Nat), o = .inl (some (.ref (rs'.getD n 0))) ∧ pl z' (n + 1) rs' e' c' ∧ pR n X z rs e c z' rs' e' c' ∧ rs'.length ≤ max rs.length (n + 1)) := by
  refine (x_lend (d := d) h hn hZ).imp ?_
  rintro o z' ⟨t, e', c', q1, q2, q3, q4, q5, q6, q7, q8, q9, q10⟩
  refine ⟨rs ++ t, e', c', q2, q1, ⟨fr_mono q3 fun b _ g => ?_, ⟨q4, q5⟩, ⟨t, rfl, q7⟩, q6, q9, q10⟩, q8⟩
  rcases g with g | g | g
  · exact .inr (.inl (.inl g))
  · exact .inr (.inl (.inr (.inl g)))
  · exact .inl g
theorem rF_104 {z : aSt} {r : Nat} (h : rowOk z r) (hD : (gT z 104).1 = 3) : ¬ rF r 104 := by
  rintro (g | g)
  · rw [g, h.1] at hD; cases hD
  · rw [g, h.2.2.1] at hD; cases hD
/-- rows that the work may not write stay -/
theorem rF_dis {z : aSt} {r q : Nat} (h : rowOk z r) (g : rowOk z q) (hn : r ≠ q) : ∀ b, rF r b → ¬ rF q b := by
  intro b hb hq
  have := rF_off h g hn
  rcases hb with h | h
  · rw [h] at hq; exact this.1 hq
  · rw [h] at hq; exact this.2 hq
theorem pR_keep {n m : Nat} {X : Nat → Prop} {z z1 : aSt} {rs rs1 : List Nat} {e c e1 c1 r : Nat} {U : Nat → Prop} (p : pl z m rs e c) (f : pR n X z rs e c z1 rs1 e1 c1) (hr : isRow z r U) (hl : lv z (r + 1)) (hX : ∀ b, rF r b → ¬ X b) (hoff : ∀ i, n ≤ i → i < rs.length → rs.getD i 0 ≠ r) : isRow z1 r U := by
  have hro := isRow_ok hr
  have key : ∀ b, rF r b → ¬ (b = 104 ∨ plF n rs e b ∨ X b) := by
    intro b hb
    have hT : gT z b = (4, 0) ∨ gT z b = (40, 128) := by
      rcases hb with g | g
      · rw [g]; exact .inl hro.1
      · rw [g]; exact .inr hro.2.2.1
    rintro (g | (g | g | ⟨i, g1, g2, g3⟩) | g)
    · rw [g] at hb; exact rF_104 hro p.2.1 hb
    · rw [g, p.1.1] at hT; rcases hT with h | h <;> cases h
    · rw [g, p.1.2.2.2.2.2.1] at hT; rcases hT with h | h <;> cases h
    · have := rF_off hro (p.2.2.2.2.2.2.2.2 _ (get_mem g2)).1 (Ne.symm (hoff i g1 g2))
      rcases hb with h | h
      · rw [h] at g3; exact this.1 g3
      · rw [h] at g3; exact this.2 g3
    · exact hX b hb g
  exact isRow_fr2 hr f.1 (key r (.inl rfl)) (key (r + 1) (.inr rfl)) hl
theorem pR_rowOk {n : Nat} {X : Nat → Prop} {m : Nat} {z z1 : aSt} {rs rs1 : List Nat} {e c e1 c1 r : Nat} (f : pR n X z rs e c z1 rs1 e1 c1) (hr : rowOk z r) (hl : lv z (r + 1)) (h0 : gR z1 r 0 = gR z r 0) : rowOk z1 r := rowOk_fr2 hr f.1 (.inr h0) hl
theorem pR_off {n : Nat} {X : Nat → Prop} {z z1 : aSt} {rs rs1 : List Nat} {e c e1 c1 r : Nat} (f : pR n X z rs e c z1 rs1 e1 c1) (hl : lv z r) (hoff : ∀ i, n ≤ i → i < rs.length → rs.getD i 0 ≠ r) : ∀ i, n ≤ i → i < rs1.length → rs1.getD i 0 ≠ r := by
  intro i h1 h2 h3
  obtain ⟨t, a3, a4⟩ := f.2.2.1
  by_cases c : i < rs.length
  · rw [a3, gd_left c] at h3
    exact hoff i h1 c h3
  · rw [a3] at h2 h3
    have := a4 _ (gd_right (by omega) h2)
    unfold lv at hl
    omega
theorem nd_get {l : List Nat} (h : l.Nodup) {i j : Nat} (hi : i < l.length) (hj : j < l.length) (hne : i ≠ j) : l.getD i 0 ≠ l.getD j 0 := by
  rw [List.getD_eq_getElem?_getD, List.getD_eq_getElem?_getD, List.getElem?_eq_getElem hi, List.getElem?_eq_getElem hj]
  intro e
  exact hne ((List.getElem_inj h).mp e)
