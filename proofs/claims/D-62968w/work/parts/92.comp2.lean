/-! compile: the class stays ready through reading, walking and work with rows -/
set_option maxRecDepth 100000
theorem rd_off {n m : Nat} {z : aSt} {ps : List Nat} {e c b : Nat} (hp : pq z m ps e c) (h1 : b ≠ 101) (h2 : b ≠ 103) (h3 : b ≠ e) (h4 : (gT z b).1 ≠ 10) : ¬ rdF n ps e b := by
  rintro (g | g | g | ⟨i, g1, g2, g3, g4⟩)
  · exact h1 g
  · exact h2 g
  · exact h3 g
  · have := hp.2.2.2.2.2.2.2.2 _ (get_mem g3)
    rw [g4] at this
    rw [this.1] at h4
    exact h4 rfl
theorem arE_ne {e b : Nat} (h : arE e) (h1 : 100 ≤ b) (h2 : b < 468) : b ≠ e := by unfold arE at h; omega
theorem CI_X {z : aSt} {tx : List Nat} {rs : List Nat} {e c : Nat} {ps : List Nat} {e1 c1 : Nat} {gs : List Nat} {e2 c2 : Nat} (h : CI z tx rs e c ps e1 c1 gs e2 c2) : ∀ b, b = e2 → gT z b = (49, (gT z b).2) := by
  obtain ⟨gts, hg⟩ := h.2.2.2.2.1
  intro b hb
  rw [hb, hg.1.2.2.2.2.2.1]
theorem CI_rd {z z1 : aSt} {tx : List Nat} {rs : List Nat} {e c : Nat} {ps ps' : List Nat} {e1 c1 e1' c1' n' x : Nat} {gs : List Nat} {e2 c2 : Nat} (h : CI z tx rs e c ps e1 c1 gs e2 c2) (r : rR 0 z ps e1 c1 z1 n' ps' e1' c1') (st : stR z1 tx x n' ps' e1' c1') : CI z1 tx rs e c ps' e1' c1' gs e2 c2 ∧ cmR N1 (fun b => b = e2) z z1 := by
  have hX2 := CI_X h
  obtain ⟨hs, hb, ⟨n0, hp⟩, ⟨a0, m0, hr⟩, ⟨gts, hg⟩, ⟨ar, ar1, ar2⟩, ⟨d1, d2, d3⟩, l1, l2⟩ := h
  have hq := hr.2.2.1
  have f := r.2.1
  have cm : cmR N1 (fun b => b = e2) z z1 := cm_rR hs r hq ar1 (fun g => d3 g) hX2
  have off : ∀ b, 100 ≤ b → b < 468 → b ≠ 101 → b ≠ 103 → (gT z b).1 ≠ 10 → ¬ rdF 0 ps e1 b := fun b h0 h1 h2 h3 h4 => rd_off hq h2 h3 (arE_ne ar1 h0 h1) h4
  have hz := hs.1.2.1
  obtain ⟨w, M, cs, dt, ak, ra⟩ := hs
  have hs : stat z := ⟨w, M, cs, dt, ak, ra⟩
  have lnew : ∀ {q}, lv z q → e1' = q → e1' = e1 ∧ q = e1 ∨ False := fun {q} hq he => by
    rcases r.2.2.2.2.2.1 with g | g
    · exact .inl ⟨g, by omega⟩
    · unfold lv at hq; omega
  refine ⟨⟨stat_cm hs (cmR_mono cm fun b => .inl) (rowsA_fr ra f hz fun b hb => ?_), fun i => ?_, ⟨n0, pl_fr hp f (off _ (by decide) (by decide) (by decide) (by decide) (by rw [hp.1.1]; decide)) ?_ (off _ (by decide) (by decide) (by decide) (by decide) (by rw [dt.1]; decide)) fun q hq' => ?_⟩, ⟨x, n', stW_of st⟩, ⟨gts, gq_cm hg (cmR_mono cm fun b => .inl) ar2 rfl⟩, ⟨ar, ?_, ar2⟩, ⟨fun g => ?_, d2, fun g => ?_⟩, l1, ?_⟩, cm⟩
  · rcases hb with hb | hb | hb
    · refine off b (by omega) (by omega) (by omega) (by omega) ?_
      have r0 := ra.1 ((b - 112) / 2) (by omega)
      rcases Nat.mod_two_eq_zero_or_one b with g | g
      · rw [show 112 + 2 * ((b - 112) / 2) = b by omega] at r0
        rw [r0.1]; decide
      · have := r0.2.2.1
        rw [show 112 + 2 * ((b - 112) / 2) + 1 = b by omega] at this
        rw [this]; decide
    · subst hb
      exact off _ (by decide) (by decide) (by decide) (by decide) (by rw [ra.2.1.1]; decide)
    · refine off b (by omega) (by omega) (by omega) (by omega) ?_
      have r0 := ra.2.2 ((b - 351) / 2) (by omega)
      rcases Nat.mod_two_eq_zero_or_one b with g | g
      · have := r0.2.2.1
        rw [show 351 + 2 * ((b - 351) / 2) + 1 = b by omega] at this
        rw [this]; decide
      · rw [show 351 + 2 * ((b - 351) / 2) = b by omega] at r0
        rw [r0.1]; decide
  · have : ¬ rdF 0 ps e1 109 := off _ (by decide) (by decide) (by decide) (by decide) (by rw [dt.2.2.2.2.2.2.2.2.2.2.2]; decide)
    rw [(f.2.2 109 (stat_lv hs (by decide)) this i).2.2]
    exact hb i
  · by_cases ce : e = e1
    · exact .inr (d1 ce)
    · rcases ar with g | g
      · exact .inr g
      · exact .inl (rd_off hq (by omega) (by omega) ce (by rw [hp.1.2.2.2.2.2.1]; show (49 : Nat) ≠ 10; decide))
  · have ho := hp.2.2.2.2.2.2.2.2 q hq'
    refine rd_off hq (by omega) (by omega) (fun g => ?_) (by rw [ho.1.1]; decide)
    have := hq.1.2.2.2.2.2.1
    rw [← g, ho.1.1] at this
    cases this
  · rcases r.2.2.2.2.2.1 with g | g
    · rw [g]; exact ar1
    · exact .inr (by omega)
  · rcases lnew hp.1.2.2.2.2.2.2.1 g.symm with ⟨g1, g2⟩ | g1
    · exact d1 g2
    · exact g1.elim
  · rcases lnew hg.1.2.2.2.2.2.2.1 g with ⟨g1, g2⟩ | g1
    · rw [g1]; exact d3 g2.symm
    · exact g1.elim
  · have := r.2.2.2.2.2.2.1; omega
/-- the memory when walk begins -/
theorem cm_tk0 {X : Nat → Prop} {z : aSt} : cmR N1 X z (tk0 z) := by
  refine ⟨fr_mono (fr_trans (fr_sI fun _ => rfl) (fr_sI fun _ => rfl) : fr (fun b => b = 104) z (tk0 z)) fun b _ g => .inl (by unfold N1; omega), fun _ => rfl, fun _ => rfl, fun _ => rfl, fun _ => rfl, fun _ _ => rfl, ?_, ?_⟩
  · exact (gI_ne (by decide)).trans (gI_ne (by decide))
  · exact (gI_ne (by decide)).trans (gI_ne (by decide))
theorem CI_tk {z z2 : aSt} {tx : List Nat} {rs : List Nat} {e c : Nat} {ps : List Nat} {e1 c1 : Nat} {gs : List Nat} {e2 c2 : Nat} {qs : List Nat} (h : CI z tx rs e c ps e1 c1 gs e2 c2) (f : frW qs (tk0 z) z2) (hq : ∀ b, b ∈ qs → okQ z b) : CI z2 tx rs e c ps e1 c1 gs e2 c2 ∧ cmR N1 (fun b => b = e2) z z2 := by
  have hX2 := CI_X h
  obtain ⟨hs, hb, ⟨n0, hp⟩, ⟨a0, m0, hr⟩, ⟨gts, hg⟩, ⟨ar, ar1, ar2⟩, ⟨d1, d2, d3⟩, l1, l2⟩ := h
  have hs0 : stat (tk0 z) := stat_cm hs (cmR_mono (cm_tk0 (X := fun b => b = e2)) fun b => .inl) hs.2.2.2.2.2
  have hq0 : ∀ b, b ∈ qs → okQ (tk0 z) b := fun b hb => hq b hb
  have cm : cmR N1 (fun b => b = e2) z z2 := cmR_trans cm_tk0 (cm_frW hs0 f hq0 hX2)
  have ff : fr (fun b => (104 ≤ b ∧ b ≤ 109) ∨ b ∈ qs) z z2 := fr_trans (fr_trans (fr_sI fun _ => .inl (by decide)) (fr_sI fun _ => .inl (by decide)) : fr _ z (tk0 z)) f.1
  have off : ∀ b, b < 468 → ¬ (104 ≤ b ∧ b ≤ 109) → ¬ ((104 ≤ b ∧ b ≤ 109) ∨ b ∈ qs) := fun b h1 h2 g => g.elim h2 fun g => by have := (hq b g).2.2; omega
  have hz := hs.1.2.1
  refine ⟨⟨stat_cm hs (cmR_mono cm fun b => .inl) (rowsA_fr hs.2.2.2.2.2 ff hz fun b hb => off b (by omega) (by omega)), fun i => ?_, ⟨0, pl_frW hs0.2.2.2.1 (pl_lent (pl_many hp) (Nat.zero_le _)) f hq0⟩, ⟨a0, m0, stW_fr hr ff (off _ (by decide) (by decide)) (off _ (by decide) (by decide)) (off _ (by decide) (by decide)) ?_⟩, ⟨gts, gq_cm hg (cmR_mono cm fun b => .inl) ar2 rfl⟩, ⟨ar, ar1, ar2⟩, ⟨d1, d2, d3⟩, l1, l2⟩, cm⟩
  · rcases f.2.2.2.2 i with g | ⟨b, g1, g2⟩
    · rw [g]; exact hb i
    · rw [g2]
      intro q
      have := Option.some.inj q
      omega
  · rcases ar1 with g | g
    · exact .inr g
    · refine .inl fun q => q.elim (by omega) fun q => ?_
      have := (hq e1 q).1
      rw [hr.2.2.1.1.2.2.2.2.2.1] at this
      cases this
theorem CI_pR {Y : Nat → Prop} {z z' : aSt} {tx : List Nat} {rs rs' : List Nat} {e c e' c' n : Nat} {ps : List Nat} {e1 c1 : Nat} {gs : List Nat} {e2 c2 : Nat} (h : CI z tx rs e c ps e1 c1 gs e2 c2) (r : pR 0 Y z rs e c z' rs' e' c') (hp' : pl z' n rs' e' c') (hl : rs'.length ≤ 640) (hra : rowsA z') (hY : ∀ b, Y b → N1 b ∧ b ≠ 101 ∧ b ≠ 103 ∧ b ≠ 109 ∧ 100 ≤ b) (h100 : ∀ k, gR z' 100 k = gR z 100 k) : CI z' tx rs' e' c' ps e1 c1 gs e2 c2 ∧ cmR N1 (fun b => b = e2) z z' := by
  have hX2 := CI_X h
  obtain ⟨hs, hb, ⟨n0, hp⟩, ⟨a0, m0, hr⟩, ⟨gts, hg⟩, ⟨ar, ar1, ar2⟩, ⟨d1, d2, d3⟩, l1, l2⟩ := h
  have hz := hs.1.2.1
  have cm : cmR N1 (fun b => b = e2) z z' := cm_pR hs r hp ar (fun g => d2 g) hX2 (fun b g => ⟨(hY b g).1, (hY b g).2.1⟩) h100
  have f := r.1
  have off : ∀ b, b ≠ 104 → b ≠ 111 → b ≠ e → (gT z b).1 ≠ 4 → (gT z b).1 ≠ 40 → ¬ Y b → ¬ (b = 104 ∨ plF 0 rs e b ∨ Y b) := fun b h1 h2 h3 h4 h5 h6 => by
    rintro (g | (g | g | ⟨i, g1, g2, g3⟩) | g)
    · exact h1 g
    · exact h2 g
    · exact h3 g
    · have ho := hp.2.2.2.2.2.2.2.2 _ (get_mem g2)
      rcases g3 with g3 | g3
      · rw [g3, ho.1.1] at h4; exact h4 rfl
      · rw [g3, ho.1.2.2.1] at h5; exact h5 rfl
    · exact h6 g
  have lnew : ∀ {q}, lv z q → e' = q → e' = e ∧ q = e ∨ False := fun {q} hq he => by
    rcases r.2.2.2.1 with g | g
    · exact .inl ⟨g, by omega⟩
    · unfold lv at hq; omega
  have dt := hs.2.2.2.1
  refine ⟨⟨stat_cm hs (cmR_mono cm fun b => .inl) hra, fun i => ?_, ⟨n, hp'⟩, ⟨a0, m0, stW_fr hr f (off _ (by decide) (by decide) (arE_ne ar (by decide) (by decide)) (by rw [hr.1.1]; decide) (by rw [hr.1.1]; decide) (fun g => (hY _ g).2.1 rfl)) (off _ (by decide) (by decide) (arE_ne ar (by decide) (by decide)) (by rw [hr.1.2.2.1]; decide) (by rw [hr.1.2.2.1]; decide) (fun g => by have := (hY _ g).1; unfold N1 at this; omega)) (off _ (by decide) (by decide) (arE_ne ar (by decide) (by decide)) (by rw [hr.2.2.1.1.1]; decide) (by rw [hr.2.2.1.1.1]; decide) (fun g => (hY _ g).2.2.1 rfl)) ?_⟩, ⟨gts, gq_cm hg (cmR_mono cm fun b => .inl) ar2 rfl⟩, ⟨?_, ar1, ar2⟩, ⟨fun g => ?_, fun g => ?_, d3⟩, hl, l2⟩, cm⟩
  · have : ¬ (109 = 104 ∨ plF 0 rs e 109 ∨ Y 109) := off _ (by decide) (by decide) (arE_ne ar (by decide) (by decide)) (by rw [dt.2.2.2.2.2.2.2.2.2.2.2]; decide) (by rw [dt.2.2.2.2.2.2.2.2.2.2.2]; decide) (fun g => (hY _ g).2.2.2.1 rfl)
    rw [(f.2.2 109 (stat_lv hs (by decide)) this i).2.2]
    exact hb i
  · by_cases ce : e1 = e
    · exact .inr (by rw [ce]; exact d1 ce.symm)
    · rcases ar1 with g | g
      · exact .inr g
      · refine .inl (off _ (by omega) (by omega) ce ?_ ?_ fun q => ?_)
        · rw [hr.2.2.1.1.2.2.2.2.2.1]; show (49 : Nat) ≠ 4; decide
        · rw [hr.2.2.1.1.2.2.2.2.2.1]; show (49 : Nat) ≠ 40; decide
        · have := N1_lt (hY _ q).1; omega
  · rcases r.2.2.2.1 with g | g
    · rw [g]; exact ar
    · exact .inr (by omega)
  · rcases lnew hr.2.2.1.1.2.2.2.2.2.2.1 g with ⟨g1, g2⟩ | g1
    · rw [g1]; exact d1 g2.symm
    · exact g1.elim
  · rcases lnew hg.1.2.2.2.2.2.2.1 g with ⟨g1, g2⟩ | g1
    · rw [g1]; exact d2 g2.symm
    · exact g1.elim
theorem prt_w {to : Nat → Nat} {n : Nat} : ∀ (f : Nat) (lk : Nat → Option Nat), lkw lk → lkw (prt to n f lk)
  | 0, _, h => h
  | f + 1, lk, h => by
    unfold prt
    split
    · exact rfn_w
    · exact prt_w f _ rfn_w
theorem bad0_t {many : Nat} {G : Nat → Nat → Nat → Prop} {ws : List (List Nat)} {i : Nat} : bad0 many G ws i = true ↔ ∀ x, ¬ cw many G (ws.getD i []) x := by
  unfold bad0
  exact @decide_eq_true_iff _ (Classical.propDecidable _)
theorem getD_memO {l : List Nat} {i n : Nat} (h : ∀ j ∈ l, j < n) (hi : i < l.length) : l.getD i 0 < n := h _ (get_mem hi)
