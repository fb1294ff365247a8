/-! Circuit.make, size, value -/
set_option maxRecDepth 100000
/-- the tree of an output -/
noncomputable def trO (many : Nat) (out : List (Option Nat)) (o : Nat) : Tr := gw (wnt many out o) (bitsOf many) (3 + bitsOf many) 0 0
/-- from z to z', while the circuit is made -/
def mkF (z : aSt) (ps : List Nat) (e c : Nat) (z' : aSt) (ps' : List Nat) (e' c' : Nat) : Prop :=
  fr (fun b => gtF 0 ps e b ∨ b = 349) z z' ∧ (∀ k, gR z' 345 k = gR z 345 k) ∧ (∀ k, k ≠ 3 → k ≠ 6 → gI z' 345 k = gI z 345 k) ∧ (∃ t, ps' = ps ++ t ∧ ∀ p ∈ t, 100 + gZ z ≤ p) ∧ (e' = e ∨ 100 + gZ z ≤ e') ∧ ps'.length ≤ max ps.length 3600 ∧ gZ z' + 2 * ps.length ≤ gZ z + 2 * ps'.length ∧ gS z' + 4 * c + 4 * ps.length ≤ gS z + 4 * c' + 4 * ps'.length
theorem mkF_refl {z : aSt} {ps : List Nat} {e c : Nat} : mkF z ps e c z ps e c := ⟨fr_refl z, fun _ => rfl, fun _ _ _ => rfl, ⟨[], (List.append_nil ps).symm, fun r hr => (by cases hr)⟩, .inl rfl, Nat.le_max_left .., Nat.le_refl _, Nat.le_refl _⟩
theorem mkF_trans {z z1 z2 : aSt} {ps ps1 ps2 : List Nat} {e c e1 c1 e2 c2 : Nat} (h : mkF z ps e c z1 ps1 e1 c1) (g : mkF z1 ps1 e1 c1 z2 ps2 e2 c2) : mkF z ps e c z2 ps2 e2 c2 := by
  obtain ⟨a1, a2, a2', ⟨t, a3, a4⟩, a5, a6, a7, a8⟩ := h
  obtain ⟨b1, b2, b2', ⟨t', b3, b4⟩, b5, b6, b7, b8⟩ := g
  have hz := a1.1
  refine ⟨fr_old a1 b1 ?_, fun k => (b2 k).trans (a2 k), fun k hk hk' => (b2' k hk hk').trans (a2' k hk hk'), ⟨t ++ t', by rw [b3, a3, List.append_assoc], fun r hr => ?_⟩, ?_, by omega, by omega, by omega⟩
  · intro b hb g
    rcases g with (g | g | g | ⟨i, g1, g2, g2', g3⟩) | g
    · exact .inl (.inl g)
    · exact .inl (.inr (.inl g))
    · rcases a5 with q | q
      · exact .inl (.inr (.inr (.inl (g.trans q))))
      · unfold lv at hb; omega
    · by_cases c : i < ps.length
      · refine .inl (.inr (.inr (.inr ⟨i, Nat.zero_le _, c, c, ?_⟩)))
        rw [a3, gd_left c] at g3
        exact g3
      · rw [a3] at g2 g3
        have := a4 _ (gd_right (by omega) g2)
        unfold lv at hb
        omega
    · exact .inr g
  · rcases List.mem_append.mp hr with g | g
    · exact a4 r g
    · have := b4 r g; omega
  · rcases b5 with g | g
    · rw [g]; exact a5
    · exact .inr (by omega)
theorem mkF_gR {n n' : Nat} {z z' : aSt} {ps ps' : List Nat} {e c e' c' : Nat} (h : gR' n z ps e c z' n' ps' e' c') (hn : n' ≤ 3600) : mkF z ps e c z' ps' e' c' := by
  obtain ⟨a0, a1, a2, a2', a3, a5, a6, a7, a8⟩ := h
  refine ⟨fr_mono a1 fun b _ g => .inl ?_, a2, fun k hk _ => a2' k hk, a3, a5, by omega, a7, a8⟩
  rcases g with g | g | g | ⟨i, g1, g2⟩
  · exact .inl g
  · exact .inr (.inl g)
  · exact .inr (.inr (.inl g))
  · exact .inr (.inr (.inr ⟨i, Nat.zero_le _, g2⟩))
/-- the circuit as far as k outputs -/
def mkS (many : Nat) (out : List (Option Nat)) (k : Nat) (gts : List Tr) (ps : List Nat) (e c : Nat) (z : aSt) : Prop := cirX z many out ∧ gq z gts ps e c ∧ (∀ j, j < k → ∃ g, gR z 349 j = some g ∧ gAt ps gts (trO many out j) g) ∧ (∀ u, u ∈ gts ↔ ∃ j, j < k ∧ u ∈ sbn (trO many out j)) ∧ gts.length ≤ 512 * k
/-- ready: made -/
def mkD (many : Nat) (out : List (Option Nat)) (gts : List Tr) (ps : List Nat) (e c : Nat) (z : aSt) : Prop := mkS many out (bitsOf many + 1) gts ps e c z ∧ gI z 345 6 = nI 1
theorem x_makeL {d many : Nat} {out : List (Option Nat)} {ps : List Nat} {e c : Nat} {z : aSt} : ∀ (m k : Nat) (gts1 : List Tr) (ps1 : List Nat) (e1 c1 : Nat) (z1 : aSt), m + k = bitsOf many + 1 → mkS many out k gts1 ps1 e1 c1 z1 → mkF z ps e c z1 ps1 e1 c1 → gI z1 345 6 = nI 1 → wR (aEx (d + 17)) aM_X7_make (fun o z' => o = .inl none ∧ ∃ (gts' : List Tr) (ps' : List Nat) (e' c' : Nat), mkD many out gts' ps' e' c' z' ∧ mkF z ps e c z' ps' e' c') 20 [some (.ref 345), some (.int (nI k))] [] z1 := by
  intro m
  induction m with
  | zero =>
    intro k gts1 ps1 e1 c1 z1 hk s f h6
    have hb := bits_rng many s.1.2.1.2.1
    have hT : (gT z1 345).1 = 7 := by rw [s.1.2.2.1.1]
    have h5 := s.1.2.2.2.2.1
    refine w_nx (pc' := 21) rfl ?_
    refine w_nx (pc' := 22) rfl ?_
    refine w_getI rfl rfl (hT) rfl rfl ?_
    refine w_top (h5) ?_
    refine w_ncgt rfl rfl rfl (rfl) (rfl) (by omega) (by omega) (fun hb2 => ?_) (fun hb2 => ?_)
    · have e : k = bitsOf many + 1 := by omega
      subst e
      exact w_fin rfl ⟨rfl, gts1, ps1, e1, c1, ⟨s, h6⟩, f⟩
    · omega
  | succ m ih =>
    intro k gts1 ps1 e1 c1 z1 hk s f h6
    obtain ⟨hX, hq, so, sm, sl⟩ := s
    have hb := bits_rng many hX.2.1.2.1
    have cs := hX.2.2.1
    have hT : (gT z1 345).1 = 7 := by rw [cs.1]
    have h5 := hX.2.2.2.2.1
    have hp6 : 2 ^ (3 + bitsOf many) ≤ 2 ^ 9 := Nat.pow_le_pow_right (by decide) (by omega)
    refine w_nx (pc' := 21) rfl ?_
    refine w_nx (pc' := 22) rfl ?_
    refine w_getI rfl rfl (hT) rfl rfl ?_
    refine w_top (h5) ?_
    refine w_ncgt rfl rfl rfl (rfl) (rfl) (by omega) (by omega) (fun hb2 => ?_) (fun hb2 => ?_)
    · omega
    · refine w_nx (pc' := 29) rfl ?_
      refine w_getR rfl rfl (hT) (congrArg va_rf (cs.2.2.2.2.1)) rfl ?_
      refine w_nx (pc' := 33) rfl ?_
      refine w_nx (pc' := 34) rfl ?_
      refine w_nx (pc' := 35) rfl ?_
      refine w_nx (pc' := 36) (S' := .int (nI 0) :: _) rfl ?_
      refine w_nx (pc' := 37) (S' := .int (nI 0) :: _) rfl ?_
      refine w_nx (pc' := 38) (S' := .int (nI 0) :: _) rfl ?_
      have hgr := x_grow (out := out) (many := many) (o := k) (by omega) (3 + bitsOf many) (d + (6 - bitsOf many)) 0 0 gts1 ps1 e1 c1 z1 (Nat.le_refl _) (by decide) (Nat.two_pow_pos _) hX hq (by omega)
      rw [Nat.sub_self, show d + (6 - bitsOf many) + (3 + bitsOf many) + 8 = d + 17 by omega] at hgr
      obtain ⟨o2, z2, e2, g2, gts2, ps2, e2', c2', x1, x2, x3, x4, ⟨s, hs, hsl⟩, x6⟩ := hgr
      subst x1
      refine w_cal (pc' := 41) rfl (rfl) (e2) ?_
      have X2 := cirX_gR hX hq x4
      have len2 : gts2.length = gts1.length + s.length := by rw [hs, List.length_append]
      have g346 := gAt_ge x2 x3
      have hTg : (gT z2 g2).1 = 8 := by
        rcases x3 with ⟨_, rfl⟩ | ⟨_, rfl⟩ | ⟨kk, k1, k2, k3, rfl⟩
        · rw [X2.2.2.1.2.2.2.2.2.1]
        · rw [X2.2.2.1.2.2.2.2.2.2.1]
        · rw [(x2.2.2.2.2.2.1 _ (get_mem k2)).1]
      have h349 : gT z2 349 = (48, 7) := X2.2.2.1.2.2.2.2.2.2.2.1
      refine w_aast rfl h349 (by decide) (by rw [hTg]; rfl) rfl (show k < 7 by omega) (by decide) rfl ?_
      refine w_iinc rfl rfl (nI_1 _) rfl rfl ?_
      refine w_nx (pc' := 20) rfl ?_
      have h345R : ∀ j, gR (sR z2 349 k (some g2)) 345 j = gR z2 345 j := fun j => gR_ne (by decide)
      have hR : ∀ b, b ≠ 349 → ∀ j, gR (sR z2 349 k (some g2)) b j = gR z2 b j := fun b hb j => gR_ne hb
      have n349 : ¬ gtF gts1.length ps1 e1 349 := gtF_off hq (by decide) (by decide) (by decide) (by rw [cs.2.2.2.2.2.2.2.1]; decide)
      have l349 : lv z1 349 := by have := hX.2.2.2.2.2; unfold lv; omega
      refine ih (k + 1) gts2 ps2 e2' c2' _ (by omega) ⟨?_, ?_, fun j hj => ?_, fun u => ?_, by omega⟩ (mkF_trans f (mkF_trans (mkF_gR x4 (by omega)) ⟨fr_sR fun _ => .inr rfl, h345R, fun _ _ _ => rfl, ⟨[], (List.append_nil _).symm, fun r hr => (by cases hr)⟩, .inl rfl, Nat.le_max_left .., Nat.le_refl _, Nat.le_refl _⟩)) ((x4.2.2.2.1 6 (by decide)).trans h6)
      · obtain ⟨M, mr, cc, y7, y5, yz⟩ := X2
        refine ⟨⟨M.1, (hR _ (by decide) _).trans M.2.1, M.2.2.1, fun i hi => ?_⟩, ⟨mr.1, mr.2.1, mr.2.2.1, fun i hi => ?_, mr.2.2.2.2⟩, ⟨cc.1, (hR _ (by decide) _).trans cc.2.1, (hR _ (by decide) _).trans cc.2.2.1, (hR _ (by decide) _).trans cc.2.2.2.1, (hR _ (by decide) _).trans cc.2.2.2.2.1, cc.2.2.2.2.2.1, cc.2.2.2.2.2.2.1, cc.2.2.2.2.2.2.2.1, (hR _ (by decide) _).trans cc.2.2.2.2.2.2.2.2.1, (hR _ (by decide) _).trans cc.2.2.2.2.2.2.2.2.2.1, cc.2.2.2.2.2.2.2.2.2.2⟩, (hR _ (by decide) _).trans y7, y5, yz⟩
        · obtain ⟨a1, a2, a3, a4, a5⟩ := M.2.2.2 i hi
          exact ⟨(hR _ (by decide) _).trans a1, a2, a3, (hR _ (by omega) _).trans a4, a5⟩
        · have hl := mr.2.2.1
          have h40 := mr.2.1
          exact (hR _ (by omega) _).trans (mr.2.2.2.1 i hi)
      · obtain ⟨a1, a2, a3, a4, a5, a6, a7, a8⟩ := x2
        have he : e2' ≠ 349 := fun g => by have := a1.2.2.2.2.2.1; rw [g, h349] at this; cases this
        refine ⟨isAL_fr (F := fun b => b = 349) a1 (fr_sR fun _ => rfl) (by decide) he, a2, a3, a4, a5, a6, a7, fun j hj => ?_⟩
        obtain ⟨i', l', r', gl', gh', b1, b2, b3, b4, b5, b6, b7⟩ := a8 j hj
        have hpj := a6 _ (get_mem (show j < ps2.length by omega))
        exact ⟨i', l', r', gl', gh', b1, b2, b3, (hR _ (by omega) _).trans b4, (hR _ (by omega) _).trans b5, b6, b7⟩
      · by_cases cj : j = k
        · subst cj
          exact ⟨g2, gR_same .., x3⟩
        · obtain ⟨g, w1, w2⟩ := so j (by omega)
          refine ⟨g, ?_, ?_⟩
          · rw [gR_nk cj]
            exact ((x4.2.1.2.2 349 l349 n349 j).2.2).trans w1
          · obtain ⟨q, hq', _⟩ := x4.2.2.2.2.1
            rw [hs, hq']
            exact gAt_app w2
      · rw [x6, sm]
        constructor
        · rintro (⟨j, h1, h2⟩ | h)
          · exact ⟨j, by omega, h2⟩
          · exact ⟨k, by omega, h⟩
        · rintro ⟨j, h1, h2⟩
          by_cases cj : j = k
          · subst cj; exact .inr h2
          · exact .inl ⟨j, by omega, h2⟩
/-- the circuit before it is made, or made -/
def cirP (z : aSt) (many : Nat) (out : List (Option Nat)) (ps : List Nat) (e c : Nat) : Prop := (gI z 345 6 = nI 0 ∧ cirX z many out ∧ ∃ gts, gq z gts ps e c) ∨ ∃ gts, mkD many out gts ps e c z
theorem x_make {d many : Nat} {out : List (Option Nat)} {ps : List Nat} {e c : Nat} {z : aSt} (h : cirP z many out ps e c) : aW (d + 18) 79 [.ref 345] z (fun o z' => o = .inl none ∧ ∃ (gts' : List Tr) (ps' : List Nat) (e' c' : Nat), mkD many out gts' ps' e' c' z' ∧ mkF z ps e c z' ps' e' c') := by
  rcases h with ⟨h6, hX, gts, hq⟩ | ⟨gts, hD⟩
  · have cs := hX.2.2.1
    have hT : (gT z 345).1 = 7 := by rw [cs.1]
    refine w_of (k := 79) (m := aM_X7_make) rfl rfl ?_
    refine w_nx (pc' := 1) rfl ?_
    refine w_getI rfl rfl (hT) rfl rfl ?_
    refine w_top (h6) ?_
    refine w_ifeq rfl rfl rfl (fun _ => ?_) (fun g => absurd rfl g)
    have hTa : (gT (sI z 345 6 (nI 1)) 345).1 = 7 := hT
    refine w_nx (pc' := 9) rfl ?_
    refine w_nx (pc' := 10) (S' := .int (nI 1) :: _) rfl ?_
    refine w_put rfl rfl (hT) (by omega) rfl (rfl) rfl ?_
    refine w_nx (pc' := 14) rfl ?_
    refine w_nx (pc' := 15) (S' := .int (nI 0) :: _) rfl ?_
    refine w_put rfl rfl (hTa) (by omega) rfl rfl rfl ?_
    refine w_nx (pc' := 19) (S' := .int (nI 0) :: _) rfl ?_
    refine w_nx (pc' := 20) rfl ?_
    have f0 : fr (fun b => b = 345) z (sI (sI z 345 6 (nI 1)) 345 3 (nI 0)) := fr_trans (fr_sI fun _ => rfl) (fr_sI fun _ => rfl)
    have i0 : ∀ b, b ≠ 345 → ∀ k, gI (sI (sI z 345 6 (nI 1)) 345 3 (nI 0)) b k = gI z b k := fun b hb k => (gI_ne hb).trans (gI_ne hb)
    refine x_makeL (bitsOf many + 1) 0 [] ps e c _ rfl ⟨?_, ?_, fun j hj => absurd hj (by omega), fun u => ⟨fun h => (by cases h), fun ⟨j, h, _⟩ => absurd h (by omega)⟩, Nat.le_refl _⟩ ⟨fr_mono f0 fun b _ g => .inl (.inl g), fun _ => rfl, fun k h3 h6 => (gI_nk h3).trans (gI_nk h6), ⟨[], (List.append_nil _).symm, fun r hr => (by cases hr)⟩, .inl rfl, Nat.le_max_left .., Nat.le_refl _, Nat.le_refl _⟩ ((gI_nk (by decide)).trans (gI_same ..))
    · obtain ⟨M, mr, cc, y7, y5, yz⟩ := hX
      refine ⟨⟨M.1, M.2.1, M.2.2.1, fun i hi => ?_⟩, ⟨(i0 _ (by decide) _).trans mr.1, mr.2.1, mr.2.2.1, mr.2.2.2.1, mr.2.2.2.2⟩, ⟨cc.1, cc.2.1, cc.2.2.1, cc.2.2.2.1, cc.2.2.2.2.1, cc.2.2.2.2.2.1, cc.2.2.2.2.2.2.1, cc.2.2.2.2.2.2.2.1, cc.2.2.2.2.2.2.2.2.1, cc.2.2.2.2.2.2.2.2.2.1, (i0 _ (by decide) _).trans cc.2.2.2.2.2.2.2.2.2.2.1, (i0 _ (by decide) _).trans cc.2.2.2.2.2.2.2.2.2.2.2⟩, y7, ((gI_nk (by decide)).trans (gI_nk (by decide))).trans y5, yz⟩
      obtain ⟨a1, a2, a3, a4, a5⟩ := M.2.2.2 i hi
      exact ⟨a1, a2, (i0 _ (by omega) _).trans a3, a4, a5⟩
    · obtain ⟨a1, a2, a3, a4, a5, a6, a7, a8⟩ := hq
      have he : e ≠ 345 := fun g => by have := a1.2.2.2.2.2.1; rw [g, cs.1] at this; cases this
      exact ⟨isAL_fr a1 f0 (by decide) he, gI_same .., Nat.zero_le _, a4, a5, a6, List.nodup_nil, fun k hk => absurd hk (by show ¬ k < 0; omega)⟩
  · have cs := hD.1.1.2.2.1
    have hT : (gT z 345).1 = 7 := by rw [cs.1]
    refine w_of (k := 79) (m := aM_X7_make) rfl rfl ?_
    refine w_nx (pc' := 1) rfl ?_
    refine w_getI rfl rfl (hT) rfl rfl ?_
    refine w_top (hD.2) ?_
    refine w_ifeq rfl rfl rfl (fun g => absurd g (by decide)) (fun _ => ?_)
    exact w_fin rfl ⟨rfl, gts, ps, e, c, hD, mkF_refl⟩
theorem x_csize {d many : Nat} {out : List (Option Nat)} {ps : List Nat} {e c : Nat} {z : aSt} (h : cirP z many out ps e c) : aW (d + 19) 78 [.ref 345] z (fun o z' => ∃ (gts' : List Tr) (ps' : List Nat) (e' c' : Nat), o = .inl (some (.int (nI gts'.length))) ∧ mkD many out gts' ps' e' c' z' ∧ mkF z ps e c z' ps' e' c') := by
  have hT : (gT z 345).1 = 7 := by
    rcases h with ⟨_, hX, _⟩ | ⟨gts, hD⟩
    · rw [hX.2.2.1.1]
    · rw [hD.1.1.2.2.1.1]
  refine w_of (k := 78) (m := aM_X7_size) rfl rfl ?_
  refine w_nx (pc' := 1) rfl ?_
  obtain ⟨o, z1, e1, q1, gts', ps', e', c', q2, q3⟩ := x_make (d := d) h
  subst q1
  refine w_cal (pc' := 4) rfl (a_cv0 rfl rfl rfl (hT) rfl rfl) (e1) ?_
  have hT1 : (gT z1 345).1 = 7 := by rw [q2.1.1.2.2.1.1]
  refine w_nx (pc' := 5) rfl ?_
  refine w_getI rfl rfl (hT1) rfl rfl ?_
  refine w_top (q2.1.2.1.2.1) ?_
  exact w_fin rfl ⟨gts', ps', e', c', rfl, q2, q3⟩
theorem sbn_c {w : Bool} {u : Tr} (h : u ∈ sbn (if w = true then c1 else c0)) : False := by
  cases w <;> cases h
/-- levels of nodes -/
theorem sbn_lv {W : Nat → Nat → Bool} {b : Nat} : ∀ (m lt cd : Nat) (u : Tr), u ∈ sbn (gw W b m lt cd) → ∀ i l h, u = nde i l h → i < 3 + b
  | 0, lt, cd, u, hu, i, l, h, e => (sbn_c hu).elim
  | m + 1, lt, cd, u, hu, i, l, h, e => by
    unfold gw at hu
    have hH : u ∈ sbn (if b + 2 - m < 3 then gw W b m (lt ||| 2 ^ (b + 2 - m)) cd else gw W b m lt (cd ||| 2 ^ m)) → i < 3 + b := fun g => by
      split at g
      · exact sbn_lv m _ _ u g i l h e
      · exact sbn_lv m _ _ u g i l h e
    generalize (if b + 2 - m < 3 then gw W b m (lt ||| 2 ^ (b + 2 - m)) cd else gw W b m lt (cd ||| 2 ^ m)) = H at hu hH
    by_cases c : gw W b m lt cd = H
    · rw [ndr_eq c] at hu
      exact sbn_lv m _ _ u hu i l h e
    · rw [ndr_ne c, sbn_nde] at hu
      rcases List.mem_cons.mp hu with g | g
      · have := (nde_inj (e.symm.trans g)).1
        omega
      · rcases List.mem_append.mp g with g | g
        · exact sbn_lv m _ _ u g i l h e
        · exact hH g
/-- what a tree answers -/
def evT (b cd lt : Nat) : Tr → Bool
  | .leaf => false
  | .inner n _ _ l r => if n = 0 then false else if n = 1 then true else if n - 2 < 3 then (if lt.testBit (n - 2) = true then evT b cd lt r else evT b cd lt l) else (if cd.testBit (b - 1 - (n - 2 - 3)) = true then evT b cd lt r else evT b cd lt l)
theorem x_valueL {d many o cd lt : Nat} {out : List (Option Nat)} {gts : List Tr} {ps : List Nat} {e c : Nat} {z : aSt} (hD : mkD many out gts ps e c z) (hl : lt < 8) (hc : cd < 64) : ∀ (t : Tr) (g : Nat) (v5 : Option Value), gAt ps gts t g → wR (aEx d) aM_X7_value (fun r z' => z' = z ∧ r = .inl (some (.int (bI (evT (bitsOf many) cd lt t))))) 12 [some (.ref 345), some (.int (nI o)), some (.int (nI cd)), some (.int (nI lt)), some (.ref g), v5] [] z := by
  have hX := hD.1.1
  have hq := hD.1.2.1
  have cs := hX.2.2.1
  have hb := bits_rng many hX.2.1.2.1
  have hT : (gT z 345).1 = 7 := by rw [cs.1]
  have h5 := hX.2.2.2.2.1
  intro t
  induction t with
  | leaf =>
    intro g v5 ha
    rcases ha with ⟨h, _⟩ | ⟨h, _⟩ | ⟨k, k1, k2, k3, _⟩
    · cases h
    · cases h
    · obtain ⟨i, l, r, h⟩ := gq_N hq (gdT_mem k1)
      rw [k3] at h
      cases h
  | inner n a b l r ihl ihr =>
    intro g v5 ha
    rcases ha with ⟨h, e1⟩ | ⟨h, e1⟩ | ⟨k, k1, k2, k3, e1⟩
    · subst e1
      have hTg : (gT z 346).1 = 8 := by rw [cs.2.2.2.2.2.1]
      refine w_nx (pc' := 14) rfl ?_
      refine w_getR rfl rfl (hTg) (congrArg va_rf (cs.2.2.2.2.2.2.2.2.1)) rfl ?_
      refine w_inull (u := none) rfl rfl rfl (fun _ => ?_) (fun _ h => by cases h)
      refine w_nx (pc' := 104) rfl ?_
      refine w_getI rfl rfl (hTg) rfl rfl ?_
      refine w_top (cs.2.2.2.2.2.2.2.2.2.2.1) ?_
      rw [h]
      exact w_fin rfl ⟨rfl, rfl⟩
    · subst e1
      have hTg : (gT z 347).1 = 8 := by rw [cs.2.2.2.2.2.2.1]
      refine w_nx (pc' := 14) rfl ?_
      refine w_getR rfl rfl (hTg) (congrArg va_rf (cs.2.2.2.2.2.2.2.2.2.1)) rfl ?_
      refine w_inull (u := none) rfl rfl rfl (fun _ => ?_) (fun _ h => by cases h)
      refine w_nx (pc' := 104) rfl ?_
      refine w_getI rfl rfl (hTg) rfl rfl ?_
      refine w_top (cs.2.2.2.2.2.2.2.2.2.2.2) ?_
      rw [h]
      exact w_fin rfl ⟨rfl, rfl⟩
    · obtain ⟨i, l', r', gl, gh, b1, b2, b3, b4, b5, b6, b7⟩ := hq.2.2.2.2.2.2.2 k k1
      rw [k3] at b1
      unfold nde at b1
      injection b1 with i1 i2 i3 i4 i5
      subst i1 i2 i3 i4 i5 e1
      have hpk := hq.2.2.2.2.2.1 _ (get_mem k2)
      have hTg : (gT z (ps.getD k 0)).1 = 8 := by rw [hpk.1]
      have ev : evT (bitsOf many) cd lt (.inner (i + 2) 0 0 l r) = if i < 3 then (if lt.testBit i = true then evT (bitsOf many) cd lt r else evT (bitsOf many) cd lt l) else (if cd.testBit (bitsOf many - 1 - (i - 3)) = true then evT (bitsOf many) cd lt r else evT (bitsOf many) cd lt l) := by
        show (if i + 2 = 0 then _ else if i + 2 = 1 then _ else _) = _
        rw [if_neg (by omega), if_neg (by omega)]
        rfl
      rw [ev]
      have tl : ∀ bb : Bool, wR (aEx d) aM_X7_value (fun r_1 z' => z' = z ∧ r_1 = .inl (some (.int (bI (if bb = true then evT (bitsOf many) cd lt r else evT (bitsOf many) cd lt l))))) 77 [some (.ref 345), some (.int (nI o)), some (.int (nI cd)), some (.int (nI lt)), some (.ref (ps.getD k 0)), v5] [.int (bI bb)] z := by
        intro bb
        refine w_nx (pc' := 79) rfl ?_
        refine w_nx (pc' := 81) rfl ?_
        cases bb
        · refine w_ifeq rfl rfl rfl (fun _ => ?_) (fun g => absurd rfl g)
          refine w_nx (pc' := 94) rfl ?_
          refine w_getR rfl rfl (hTg) (congrArg va_rf (b4)) rfl ?_
          refine w_nx (pc' := 99) rfl ?_
          refine w_nx (pc' := 12) rfl ?_
          exact ihl gl _ b6
        · refine w_ifeq rfl rfl rfl (fun g => absurd g (by decide)) (fun _ => ?_)
          refine w_nx (pc' := 86) rfl ?_
          refine w_getR rfl rfl (hTg) (congrArg va_rf (b5)) rfl ?_
          refine w_nx (pc' := 97) rfl ?_
          refine w_nx (pc' := 99) rfl ?_
          refine w_nx (pc' := 12) rfl ?_
          exact ihr gh _ b7
      refine w_nx (pc' := 14) rfl ?_
      refine w_getR rfl rfl (hTg) (congrArg va_rf (b4)) rfl ?_
      refine w_inull (u := some gl) rfl rfl rfl (fun h => by cases h) (fun _ _ => ?_)
      refine w_nx (pc' := 22) rfl ?_
      refine w_getI rfl rfl (hTg) rfl rfl ?_
      refine w_top (b3) ?_
      refine w_nx (pc' := 26) (S' := .int (nI 3) :: _) rfl ?_
      refine w_ncge rfl rfl rfl (rfl) (rfl) (by omega) (by omega) (fun hi3 => ?_) (fun hi3 => ?_)
      · rw [if_neg (by omega)]
        have ci : i - 3 ≤ bitsOf many - 1 := by
          obtain ⟨j, _, hj⟩ := (hD.1.2.2.2.1 _).mp (gdT_mem k1)
          have := sbn_lv _ _ _ _ hj i l r k3
          omega
        · refine w_nx (pc' := 51) rfl ?_
          refine w_nx (pc' := 52) rfl ?_
          refine w_getI rfl rfl (hT) rfl rfl ?_
          refine w_top (h5) ?_
          refine w_nx (pc' := 56) (S' := .int (nI 1) :: _) rfl ?_
          refine w_nx (pc' := 57) rfl ?_
          refine w_top (pk_sub (by omega)) ?_
          refine w_nx (pc' := 59) rfl ?_
          refine w_getI rfl rfl (hTg) rfl rfl ?_
          refine w_top (b3) ?_
          refine w_nx (pc' := 63) (S' := .int (nI 3) :: _) rfl ?_
          refine w_nx (pc' := 64) rfl ?_
          refine w_top (pk_sub (by omega)) ?_
          refine w_nx (pc' := 65) rfl ?_
          refine w_top (pk_sub ci) ?_
          refine w_nx (pc' := 66) rfl ?_
          refine w_nx (pc' := 67) (S' := .int (nI 1) :: _) rfl ?_
          refine w_nx (pc' := 68) rfl ?_
          refine w_top (nI_bit (by omega) (by omega)) ?_
          refine w_nx (pc' := 69) (S' := .int (nI 1) :: _) rfl ?_
          cases hbt : cd.testBit (bitsOf many - 1 - (i - 3))
          · refine w_icne rfl rfl rfl (fun _ => ?_) (fun g => absurd (by decide) g)
            refine w_nx (pc' := 77) (S' := .int (nI 0) :: _) rfl ?_
            exact tl false
          · refine w_icne rfl rfl rfl (fun g => absurd rfl g) (fun _ => ?_)
            refine w_nx (pc' := 73) (S' := .int (nI 1) :: _) rfl ?_
            refine w_nx (pc' := 77) rfl ?_
            exact tl true
      · rw [if_pos hi3]
        refine w_nx (pc' := 30) rfl ?_
        refine w_nx (pc' := 32) rfl ?_
        refine w_getI rfl rfl (hTg) rfl rfl ?_
        refine w_top (b3) ?_
        refine w_nx (pc' := 36) rfl ?_
        refine w_nx (pc' := 37) (S' := .int (nI 1) :: _) rfl ?_
        refine w_nx (pc' := 38) rfl ?_
        refine w_top (nI_bit (by omega) (by omega)) ?_
        refine w_nx (pc' := 39) (S' := .int (nI 1) :: _) rfl ?_
        cases hbt : lt.testBit i
        · refine w_icne rfl rfl rfl (fun _ => ?_) (fun g => absurd (by decide) g)
          refine w_nx (pc' := 47) (S' := .int (nI 0) :: _) rfl ?_
          refine w_nx (pc' := 77) rfl ?_
          exact tl false
        · refine w_icne rfl rfl rfl (fun g => absurd rfl g) (fun _ => ?_)
          refine w_nx (pc' := 43) (S' := .int (nI 1) :: _) rfl ?_
          refine w_nx (pc' := 77) rfl ?_
          exact tl true
