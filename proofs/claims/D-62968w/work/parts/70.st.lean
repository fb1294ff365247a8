/-! Reading: its states and ends; Reader.digit -/
set_option maxRecDepth 100000
def stR (z : aSt) (tx : List Nat) (a n : Nat) (ps : List Nat) (e c : Nat) : Prop := rdr z tx a ∧ a ≤ tx.length ∧ pq z n ps e c ∧ 368 ≤ gZ z
/-- it gives up at x -/
def errQ (tx : List Nat) (n : Nat) (ps : List Nat) (e c : Nat) (z : aSt) (x : Nat) (o : aRes) (z' : aSt) : Prop := ∃ (z1 : aSt) (n' e' c' : Nat) (ps' : List Nat), z' = aNew z1 13 0 6 ∧ o = .inr (100 + gZ z1) ∧ stR z1 tx x n' ps' e' c' ∧ rR n z ps e c z1 n' ps' e' c' ∧ n' ≤ 41
def sucQ (R : aSt → (Nat → Prop) → Tr → Nat → Prop) (tx : List Nat) (a n : Nat) (ps : List Nat) (e c : Nat) (z : aSt) (T : Tr) (b : Nat) (o : aRes) (z' : aSt) : Prop := ∃ (s n' e' c' : Nat) (ps' : List Nat), o = .inl (some (.ref s)) ∧ stR z' tx b n' ps' e' c' ∧ rR n z ps e c z' n' ps' e' c' ∧ n' + a ≤ n + b ∧ R z' (ix ps' n n') T s
def prQ (R : aSt → (Nat → Prop) → Tr → Nat → Prop) (tx : List Nat) (a n : Nat) (ps : List Nat) (e c : Nat) (r : PR) (z : aSt) (o : aRes) (z' : aSt) : Prop := match r with
  | .inl x => errQ tx n ps e c z x o z'
  | .inr q => sucQ R tx a n ps e c z q.1 q.2 o z'
theorem stR_at {z : aSt} {tx : List Nat} {a n e c b : Nat} {ps : List Nat} (h : stR z tx a n ps e c) (hb : b ≤ tx.length) : stR (sI z 101 2 (nI b)) tx b n ps e c := by
  obtain ⟨h1, h2, ⟨p1, p2, p3, p4, p5, p6⟩, h4⟩ := h
  have h40 := h1.2.2.2.2.1
  have he : e ≠ 101 := fun g => by rw [← g, p1.2.2.2.2.2.1] at p2; cases p2
  exact ⟨rdr_at h1 (by omega), hb, ⟨isAL_fr (F := fun b => b = 101) p1 (fr_sI fun _ => rfl) (by decide) (fun g => he g), p2, p3, p4, (gI_nk (by decide)).trans p5, p6⟩, h4⟩
theorem rR_at {z : aSt} {n e c : Nat} {ps : List Nat} {v : Int32} : rR n z ps e c (sI z 101 2 v) n ps e c := ⟨Nat.le_refl _, fr_sI fun _ => .inl rfl, fun _ => rfl, fun k hk _ => gI_nk hk, ⟨[], (List.append_nil ps).symm, fun r hr => (by cases hr)⟩, .inl rfl, Nat.le_max_left .., Nat.le_refl _, Nat.le_refl _⟩
theorem errQ_pre {tx : List Nat} {n n1 e c e1 c1 x : Nat} {ps ps1 : List Nat} {z z1 z' : aSt} {o : aRes} (r : rR n z ps e c z1 n1 ps1 e1 c1) (h : errQ tx n1 ps1 e1 c1 z1 x o z') : errQ tx n ps e c z x o z' := by
  obtain ⟨z2, n', e', c', ps', h1, h2, h3, h4, h5⟩ := h
  exact ⟨z2, n', e', c', ps', h1, h2, h3, rR_trans r h4, h5⟩
theorem errQ_now {tx : List Nat} {n n1 e c e1 c1 x : Nat} {ps ps1 : List Nat} {z z1 : aSt} (r : rR n z ps e c z1 n1 ps1 e1 c1) (s : stR z1 tx x n1 ps1 e1 c1) (hn : n1 ≤ 41) : errQ tx n ps e c z x (.inr (100 + gZ z1)) (aNew z1 13 0 6) := ⟨z1, n1, e1, c1, ps1, rfl, rfl, s, r, hn⟩
/-- fresh, in these words -/
theorem x_freshR {d n e c a : Nat} {tx ps : List Nat} {z : aSt} (h : stR z tx a n ps e c) (hn : n ≤ 40) : aW (d + 7) 36 [.ref 101] z (fun o z' => ∃ (ps' : List Nat) (e' c' : Nat), stR z' tx a (n + 1) ps' e' c' ∧ o = .inl (some (.ref (ps'.getD n 0))) ∧ rR n z ps e c z' (n + 1) ps' e' c') := by
  obtain ⟨h1, h2, h3, h4⟩ := h
  refine (x_fresh (d := d) h3 hn h4).imp ?_
  rintro o z' ⟨ps', e', c', q1, q2, q3, q4⟩
  refine ⟨ps', e', c', ⟨?_, h2, q1, Nat.le_trans h4 q3.2.1.1⟩, q2, q3⟩
  obtain ⟨r1, r2, r3, r4, r5, r6, r7, r8, r9⟩ := h1
  have f := q3.2.1
  have l102 : lv z 102 := by unfold lv; omega
  have n102 : ¬ rdF n ps e 102 := by
    rintro (g | g | g | ⟨i, g1, g2, g3, g4⟩)
    · cases g
    · cases g
    · have := h3.1.2.2.2.2.2.1
      rw [← g, r3] at this
      cases this
    · have := (h3.2.2.2.2.2.2.2.2 _ (get_mem g3)).2.2
      omega
  exact ⟨q1.2.1, (q3.2.2.1 0).trans r2, (f.2.1 102 l102).trans r3, (q3.2.2.2.1 1 (by decide) (by decide)).trans r4, r5, fun i hi => ((f.2.2 102 l102 n102 i).1).trans (r6 i hi), r7, q4.trans r8, r9⟩
/-- one used Part is written -/
def wr1 (p : Nat) (z z' : aSt) : Prop := fr (fun b => b = p) z z' ∧ gZ z' = gZ z ∧ gS z' = gS z
theorem wr1_be {z : aSt} {p k : Nat} {l r : Option Nat} : wr1 p z (beP z p k l r) := by
  refine ⟨?_, rfl, rfl⟩
  unfold beP
  exact fr_trans (fr_trans (fr_trans (fr_trans (fr_trans (fr_sR fun _ => rfl) (fr_sR fun _ => rfl)) (fr_sR fun _ => rfl)) (fr_sI fun _ => rfl)) (fr_sI fun _ => rfl)) (fr_sI fun _ => rfl)
theorem wr1_sI {z z' : aSt} {p k : Nat} {v : Int32} (h : wr1 p z z') : wr1 p z (sI z' p k v) := ⟨fr_trans h.1 (fr_sI fun _ => rfl), h.2⟩
theorem be_R {z : aSt} {p k : Nat} {l r : Option Nat} : gR (beP z p k l r) p 0 = some k ∧ gR (beP z p k l r) p 1 = l ∧ gR (beP z p k l r) p 2 = r := by
  refine ⟨?_, ?_, ?_⟩
  · show gR (sR (sR (sR z p 0 (some k)) p 1 l) p 2 r) p 0 = _
    rw [gR_nk (by decide), gR_nk (by decide), gR_same]
  · show gR (sR (sR (sR z p 0 (some k)) p 1 l) p 2 r) p 1 = _
    rw [gR_nk (by decide), gR_same]
  · show gR (sR (sR (sR z p 0 (some k)) p 1 l) p 2 r) p 2 = _
    rw [gR_same]
theorem wr_fin {z z2 z3 : aSt} {tx : List Nat} {b n n2 e c e2 c2 j : Nat} {ps ps2 : List Nat} (st : stR z2 tx b n2 ps2 e2 c2) (r : rR n z ps e c z2 n2 ps2 e2 c2) (h1 : n ≤ j) (h2 : j < n2) (w : wr1 (ps2.getD j 0) z2 z3) : stR z3 tx b n2 ps2 e2 c2 ∧ rR n z ps e c z3 n2 ps2 e2 c2 ∧ (okQ z3 (ps2.getD j 0) ∧ ix ps2 n n2 (ps2.getD j 0)) ∧ ∀ lo hi, hi ≤ j ∨ j < lo → sh2 (ix ps2 lo hi) z2 z3 := by
  obtain ⟨s1, s2, s3, s4⟩ := st
  have s3' := s3
  obtain ⟨p1, p2, p3, p4, p5, p6, p7, p8, p9⟩ := s3
  have hj : j < ps2.length := by omega
  generalize hp : ps2.getD j 0 = p at w ⊢
  have ho : okQ z2 p := by rw [← hp]; exact p9 _ (get_mem hj)
  have hix : ix ps2 n n2 p := ⟨j, h1, h2, hj, hp⟩
  have f := w.1
  have h4 := ho.2.2
  have he : e2 ≠ p := fun g => by
    have a := ho.1
    rw [← g, p1.2.2.2.2.2.1] at a
    cases a
  have l102 : lv z2 102 := by unfold lv; omega
  have k101 : ∀ k, gI z3 101 k = gI z2 101 k ∧ gR z3 101 k = gR z2 101 k := fun k => ⟨(f.2.2 101 p3 (by omega) k).1, (f.2.2 101 p3 (by omega) k).2.2⟩
  obtain ⟨r1, r2, r3, r4, r5, r6, r7, r8, r9⟩ := s1
  refine ⟨⟨⟨(f.2.1 101 p3).trans r1, ((k101 0).2).trans r2, (f.2.1 102 l102).trans r3, ((k101 1).1).trans r4, r5, fun i hi => ((f.2.2 102 l102 (by omega) i).1).trans (r6 i hi), r7, ((k101 2).1).trans r8, r9⟩, s2, ⟨isAL_fr p1 f (by omega) he, (f.2.1 101 p3).trans p2, lv_fr f p3, ((k101 3).2).trans p4, ((k101 4).1).trans p5, p6, p7, p8, fun q hq => okQ_fr (p9 q hq) f⟩, by rw [w.2.1]; exact s4⟩, ?_, ⟨okQ_fr ho f, hix⟩, fun lo hi hh => sh2_fr f fun b hb _ g => ?_⟩
  · obtain ⟨a0, a1, a2, a2', a3, a5, a6, a7, a8⟩ := r
    refine ⟨a0, fr_old a1 f ?_, fun k => ((k101 k).2).trans (a2 k), fun k hk hk' => ((k101 k).1).trans (a2' k hk hk'), a3, a5, a6, by rw [w.2.1]; exact a7, by rw [w.2.2]; exact a8⟩
    intro b hb g
    obtain ⟨t, a3, a4⟩ := a3
    subst g
    by_cases cc : j < ps.length
    · refine .inr (.inr (.inr ⟨j, h1, cc, cc, ?_⟩))
      rw [a3, gd_left cc] at hp
      exact hp
    · rw [a3] at hj hp
      have := a4 _ (gd_right (by omega) hj)
      unfold lv at hb
      omega
  · subst g
    obtain ⟨i, g1, g2, g3, g4⟩ := hb
    exact nd_get p8 g3 hj (by omega) (g4.trans hp.symm)
theorem x_digit {d a v : Nat} {tx : List Nat} {z : aSt} (h : rdr z tx a) (hv : v < 128) (hv2 : 48 ≤ v) : aW (d + 2) 43 [.ref 101, .int (nI v)] z (fun o z' => ((v ≤ tx.getD a 0 ∧ tx.getD a 0 ≤ 57) ∧ o = .inl (some (.int (nI (tx.getD a 0 - 48)))) ∧ z' = sI z 101 2 (nI (a + 1))) ∨ (¬ (v ≤ tx.getD a 0 ∧ tx.getD a 0 ≤ 57) ∧ o = .inr (100 + gZ z) ∧ z' = aNew z 13 0 6)) := by
  have hT : (gT z 101).1 = 1 := by rw [h.1]
  have hc := tx_lt h.2.2.2.2.2.2.1 a
  refine w_of (k := 43) (m := aM_X2_digit) rfl rfl ?_
  refine w_nx (pc' := 1) rfl ?_
  obtain ⟨o, z1, e1, q1, q2⟩ := x_here (d := d) h
  subst q1
  rw [q2] at e1
  refine w_cal (pc' := 4) rfl (a_cv0 rfl rfl rfl (hT) rfl rfl) (e1) ?_
  have bad : ¬ (v ≤ tx.getD a 0 ∧ tx.getD a 0 ≤ 57) → wR (aEx (d + 1)) aM_X2_digit (fun o z' => ((v ≤ tx.getD a 0 ∧ tx.getD a 0 ≤ 57) ∧ o = .inl (some (.int (nI (tx.getD a 0 - 48)))) ∧ z' = sI z 101 2 (nI (a + 1))) ∨ (¬ (v ≤ tx.getD a 0 ∧ tx.getD a 0 ≤ 57) ∧ o = .inr (100 + gZ z) ∧ z' = aNew z 13 0 6)) 20 [some (.ref 101), some (.int (nI v)), some (.int (nI (tx.getD a 0)))] [] z := by
    intro hb
    refine w_nx (pc' := 21) (S' := .int (nI 0) :: _) rfl ?_
    obtain ⟨o, z1, e1, q1, q2⟩ := x_need0 (d := d) (z := z)
    subst q1
    rw [q2] at e1
    refine w_thr (rfl) (e1) rfl ?_
    exact .inr ⟨hb, rfl, rfl⟩
  refine w_nx (pc' := 5) rfl ?_
  refine w_nx (pc' := 6) rfl ?_
  refine w_nx (pc' := 7) rfl ?_
  refine w_nclt rfl rfl rfl (rfl) (rfl) (by omega) (by omega) (fun h1 => ?_) (fun h1 => ?_)
  · exact bad (by omega)
  · refine w_nx (pc' := 11) rfl ?_
    refine w_nx (pc' := 13) (S' := .int (nI 57) :: _) rfl ?_
    refine w_ncgt rfl rfl rfl (rfl) (rfl) (by omega) (by omega) (fun h2 => ?_) (fun h2 => ?_)
    · exact bad (by omega)
    · refine w_nx (pc' := 17) (S' := .int (nI 1) :: _) rfl ?_
      refine w_nx (pc' := 21) rfl ?_
      obtain ⟨o, z1, e1, q1, q2⟩ := x_need1 (d := d) (z := z)
      subst q1
      rw [q2] at e1
      refine w_cal (pc' := 24) rfl (rfl) (e1) ?_
      refine w_nx (pc' := 25) rfl ?_
      refine w_nx (pc' := 26) rfl ?_
      refine w_getI rfl rfl (hT) rfl rfl ?_
      refine w_top (h.2.2.2.2.2.2.2.1) ?_
      refine w_nx (pc' := 30) (S' := .int (nI 1) :: _) rfl ?_
      refine w_nx (pc' := 31) rfl ?_
      refine w_top (nI_add _ _) ?_
      refine w_put rfl rfl (hT) (by omega) rfl rfl rfl ?_
      refine w_nx (pc' := 35) rfl ?_
      refine w_nx (pc' := 37) (S' := .int (nI 48) :: _) rfl ?_
      refine w_nx (pc' := 38) rfl ?_
      refine w_top (pk_sub (by omega)) ?_
      exact w_fin rfl (.inl ⟨⟨h1, h2⟩, rfl, rfl⟩)
