/-! TraceWarden.alike, part -/
set_option maxRecDepth 100000
def lks (lk : Nat → Option Nat) : Prop := ∀ i, i < 40 → sml (lk i)
theorem bI_dec {p q : Prop} [Decidable p] [Decidable q] (h : p ↔ q) : bI (decide p) = bI (decide q) := by
  by_cases c : p
  · rw [decide_eq_true c, decide_eq_true (h.mp c)]
  · rw [decide_eq_false c, decide_eq_false (fun g => c (h.mpr g))]
theorem x_alikeX {d n i j : Nat} {z : aSt} {lk : Nat → Option Nat} {to : Nat → Nat} (hw : twS z) (hn : n ≤ 40) (hi : i < n) (hj : j < n) (hs : lks lk) (hL : lkI z 258 n lk) (hto : toA z n to) : ∀ (m x : Nat) (b : Bool), m + x = 8 → (b = true ↔ lk i = lk j ∧ ∀ y, y < x → lk (to (8 * i + y)) = lk (to (8 * j + y))) → wR (aEx d) aM_X1_alike (fun o z' => z' = z ∧ o = .inl (some (.int (bI (decide (sg lk to i = sg lk to j)))))) 24 [some (.ref 100), some (.int (nI i)), some (.int (nI j)), some (.int (bI b)), some (.int (nI x))] [] z := by
  have hT : (gT z 100).1 = 0 := by rw [hw.1]
  intro m
  induction m with
  | zero =>
    intro x b hx hb'
    have e : x = 8 := by omega
    subst e
    have e2 : b = decide (sg lk to i = sg lk to j) := by
      by_cases c : b = true
      · rw [c, decide_eq_true (sg_eq.mpr (hb'.mp c))]
      · rw [decide_eq_false (fun g => c (hb'.mpr (sg_eq.mp g)))]
        exact Bool.eq_false_iff.mpr c
    refine w_nx (pc' := 26) rfl ?_
    refine w_nx (pc' := 28) (S' := .int (nI 8) :: _) rfl ?_
    refine w_ncge rfl rfl rfl (rfl) (rfl) (by decide) (by decide) (fun hb => ?_) (fun hb => ?_)
    · refine w_nx (pc' := 85) rfl ?_
      rw [← e2]
      cases b
      · exact w_fin rfl ⟨rfl, rfl⟩
      · exact w_fin rfl ⟨rfl, rfl⟩
    · exact absurd hb (by decide)
  | succ m ih =>
    intro x b hx hb'
    refine w_nx (pc' := 26) rfl ?_
    refine w_nx (pc' := 28) (S' := .int (nI 8) :: _) rfl ?_
    refine w_ncge rfl rfl rfl (rfl) (rfl) (by omega) (by omega) (fun hb => ?_) (fun hb => ?_)
    · omega
    · refine w_nx (pc' := 32) rfl ?_
      cases b with
      | false =>
        refine w_ifeq rfl rfl rfl (fun _ => ?_) (fun g => absurd rfl g)
        have hne : ¬ sg lk to i = sg lk to j := fun g => by
          have g2 := sg_eq.mp g
          have := hb'.mpr ⟨g2.1, fun y hy => g2.2 y (by omega)⟩
          cases this
        rw [decide_eq_false hne]
        refine w_nx (pc' := 85) rfl ?_
        exact w_fin rfl ⟨rfl, rfl⟩
      | true =>
        refine w_ifeq rfl rfl rfl (fun g => absurd g (by decide)) (fun _ => ?_)
        have hb2 := hb'.mp rfl
        have ti := hto (8 * i + x) (by omega)
        have tj := hto (8 * j + x) (by omega)
        have tl : ∀ c : Bool, (c = true ↔ lk (to (8 * i + x)) = lk (to (8 * j + x))) → wR (aEx d) aM_X1_alike (fun o z' => z' = z ∧ o = .inl (some (.int (bI (decide (sg lk to i = sg lk to j)))))) 77 [some (.ref 100), some (.int (nI i)), some (.int (nI j)), some (.int (bI true)), some (.int (nI x))] [.int (bI c)] z := by
          intro c hc
          refine w_nx (pc' := 78) rfl ?_
          refine w_iinc rfl rfl (nI_1 _) rfl rfl ?_
          refine w_nx (pc' := 24) rfl ?_
          refine ih (x + 1) c (by omega) ?_
          rw [hc]
          constructor
          · intro g
            refine ⟨hb2.1, fun y hy => ?_⟩
            by_cases cy : y = x
            · rw [cy]; exact g
            · exact hb2.2 y (by omega)
          · intro g
            exact g.2 x (by omega)
        refine w_nx (pc' := 36) rfl ?_
        refine w_getR rfl rfl (hT) (congrArg va_rf (hw.2.2.1.2.2.2.2.1)) rfl ?_
        refine w_nx (pc' := 40) rfl ?_
        refine w_getR rfl rfl (hT) (congrArg va_rf (hw.2.2.1.2.2.2.1)) rfl ?_
        refine w_nx (pc' := 45) (S' := .int (nI 8) :: _) rfl ?_
        refine w_nx (pc' := 46) rfl ?_
        refine w_nx (pc' := 47) rfl ?_
        refine w_top (pk_mul _ _) ?_
        refine w_nx (pc' := 49) rfl ?_
        refine w_nx (pc' := 50) rfl ?_
        refine w_top (nI_add _ _) ?_
        refine w_ald rfl (fun _ _ _ _ _ _ => rfl) (hw.2.2.2.1.2.1) rfl rfl (show 8 * i + x < 320 by omega) (by decide) rfl rfl ?_
        refine w_top ti.1 ?_
        refine w_ald rfl (fun _ _ _ _ _ _ => rfl) (hw.2.2.2.1.2.2.1) rfl rfl (show to (8 * i + x) < 40 by omega) (by decide) rfl rfl ?_
        refine w_top (hL _ ti.2) ?_
        refine w_nx (pc' := 53) rfl ?_
        refine w_getR rfl rfl (hT) (congrArg va_rf (hw.2.2.1.2.2.2.2.1)) rfl ?_
        refine w_nx (pc' := 57) rfl ?_
        refine w_getR rfl rfl (hT) (congrArg va_rf (hw.2.2.1.2.2.2.1)) rfl ?_
        refine w_nx (pc' := 62) (S' := .int (nI 8) :: _) rfl ?_
        refine w_nx (pc' := 63) rfl ?_
        refine w_nx (pc' := 64) rfl ?_
        refine w_top (pk_mul _ _) ?_
        refine w_nx (pc' := 66) rfl ?_
        refine w_nx (pc' := 67) rfl ?_
        refine w_top (nI_add _ _) ?_
        refine w_ald rfl (fun _ _ _ _ _ _ => rfl) (hw.2.2.2.1.2.1) rfl rfl (show 8 * j + x < 320 by omega) (by decide) rfl rfl ?_
        refine w_top tj.1 ?_
        refine w_ald rfl (fun _ _ _ _ _ _ => rfl) (hw.2.2.2.1.2.2.1) rfl rfl (show to (8 * j + x) < 40 by omega) (by decide) rfl rfl ?_
        refine w_top (hL _ tj.2) ?_
        refine w_icne rfl rfl rfl (fun g => ?_) (fun g => ?_)
        · refine w_nx (pc' := 77) (S' := .int (nI 0) :: _) rfl ?_
          exact tl false ⟨fun h => (by cases h), fun h => absurd (congrArg oI h) g⟩
        · refine w_nx (pc' := 73) (S' := .int (nI 1) :: _) rfl ?_
          refine w_nx (pc' := 77) rfl ?_
          exact tl true ⟨fun _ => oI_inj (hs _ (Nat.lt_of_lt_of_le ti.2 hn)) (hs _ (Nat.lt_of_lt_of_le tj.2 hn)) (Classical.not_not.mp g), fun _ => rfl⟩
theorem x_alike {d n i j : Nat} {z : aSt} {lk : Nat → Option Nat} {to : Nat → Nat} (hw : twS z) (hn : n ≤ 40) (hi : i < n) (hj : j < n) (hs : lks lk) (hL : lkI z 258 n lk) (hto : toA z n to) : aW (d + 1) 20 [.ref 100, .int (nI i), .int (nI j)] z (fun o z' => z' = z ∧ o = .inl (some (.int (bI (decide (sg lk to i = sg lk to j)))))) := by
  have hT : (gT z 100).1 = 0 := by rw [hw.1]
  refine w_of (k := 20) (m := aM_X1_alike) rfl rfl ?_
  refine w_nx (pc' := 1) rfl ?_
  refine w_getR rfl rfl (hT) (congrArg va_rf (hw.2.2.1.2.2.2.2.1)) rfl ?_
  refine w_nx (pc' := 5) rfl ?_
  refine w_ald rfl (fun _ _ _ _ _ _ => rfl) (hw.2.2.2.1.2.2.1) rfl (rfl) (by omega) (by decide) rfl rfl ?_
  refine w_top (hL i hi) ?_
  refine w_nx (pc' := 7) rfl ?_
  refine w_getR rfl rfl (hT) (congrArg va_rf (hw.2.2.1.2.2.2.2.1)) rfl ?_
  refine w_nx (pc' := 11) rfl ?_
  refine w_ald rfl (fun _ _ _ _ _ _ => rfl) (hw.2.2.2.1.2.2.1) rfl (rfl) (by omega) (by decide) rfl rfl ?_
  refine w_top (hL j hj) ?_
  refine w_icne rfl rfl rfl (fun g => ?_) (fun g => ?_)
  · refine w_nx (pc' := 20) (S' := .int (nI 0) :: _) rfl ?_
    refine w_nx (pc' := 21) rfl ?_
    refine w_nx (pc' := 22) (S' := .int (nI 0) :: _) rfl ?_
    refine w_nx (pc' := 24) rfl ?_
    exact x_alikeX hw hn hi hj hs hL hto 8 0 false rfl ⟨fun h => (by cases h), fun h => absurd (congrArg oI h.1) g⟩
  · refine w_nx (pc' := 16) (S' := .int (nI 1) :: _) rfl ?_
    refine w_nx (pc' := 20) rfl ?_
    refine w_nx (pc' := 21) rfl ?_
    refine w_nx (pc' := 22) (S' := .int (nI 0) :: _) rfl ?_
    refine w_nx (pc' := 24) rfl ?_
    exact x_alikeX hw hn hi hj hs hL hto 8 0 true rfl ⟨fun _ => ⟨oI_inj (hs i (by omega)) (hs j (by omega)) (Classical.not_not.mp g), fun y hy => absurd hy (by omega)⟩, fun _ => rfl⟩
/-- the least one that goes alike is sought -/
theorem x_partJ {d n i : Nat} {z : aSt} {lk : Nat → Option Nat} {to : Nat → Nat} {v1 : Option Value} {Q : aRes → aSt → Prop} (hw : twS z) (hn : n ≤ 40) (hi : i < n) (hs : lks lk) (hL : lkI z 258 n lk) (hto : toA z n to) (hk : lk i ≠ none)
    (cont : wR (aEx (d + 1)) aM_X1_part Q 45 [some (.ref 100), v1, some (.int (nI i)), some (.int (nI (fs (fun j => decide (sg lk to j = sg lk to i)) i 0)))] [] z) : ∀ (m j : Nat), m + j = i → (∀ k, k < j → sg lk to k ≠ sg lk to i) → wR (aEx (d + 1)) aM_X1_part Q 20 [some (.ref 100), v1, some (.int (nI i)), some (.int (nI j))] [] z := by
  have hT : (gT z 100).1 = 0 := by rw [hw.1]
  intro m
  induction m with
  | zero =>
    intro j hj hne
    have e : j = i := by omega
    subst e
    have ef : fs (fun k => decide (sg lk to k = sg lk to j)) j 0 = j := fs_eq (fun k _ hk => decide_eq_false (hne k hk)) (by omega) (by omega) (fun h => absurd h (by omega))
    rw [ef] at cont
    refine w_nx (pc' := 21) rfl ?_
    refine w_getR rfl rfl (hT) (congrArg va_rf (hw.2.2.1.2.2.2.2.1)) rfl ?_
    refine w_nx (pc' := 25) rfl ?_
    refine w_ald rfl (fun _ _ _ _ _ _ => rfl) (hw.2.2.2.1.2.2.1) rfl (rfl) (by omega) (by decide) rfl rfl ?_
    refine w_top (hL j hi) ?_
    refine w_nx (pc' := 27) (S' := .int ((-1)) :: _) rfl ?_
    refine w_iceq rfl rfl rfl (fun g => absurd ((oI_none (hs j (by omega))).mp g) hk) (fun _ => ?_)
    refine w_nx (pc' := 31) rfl ?_
    refine w_nx (pc' := 32) rfl ?_
    refine w_nx (pc' := 33) rfl ?_
    obtain ⟨o, z1, e1, q1, q2⟩ := x_alike (d := d) hw hn hi hi hs hL hto
    subst q2
    rw [q1] at e1
    refine w_cal (pc' := 36) rfl (a_cv0 rfl rfl rfl (hT) rfl rfl) (e1) ?_
    rw [decide_eq_true rfl]
    exact w_ifne rfl rfl rfl (fun _ => cont) (fun g => absurd (show ¬ bI true = 0 by decide) g)
  | succ m ih =>
    intro j hj hne
    refine w_nx (pc' := 21) rfl ?_
    refine w_getR rfl rfl (hT) (congrArg va_rf (hw.2.2.1.2.2.2.2.1)) rfl ?_
    refine w_nx (pc' := 25) rfl ?_
    refine w_ald rfl (fun _ _ _ _ _ _ => rfl) (hw.2.2.2.1.2.2.1) rfl (rfl) (by omega) (by decide) rfl rfl ?_
    refine w_top (hL i hi) ?_
    refine w_nx (pc' := 27) (S' := .int ((-1)) :: _) rfl ?_
    refine w_iceq rfl rfl rfl (fun g => absurd ((oI_none (hs i (by omega))).mp g) hk) (fun _ => ?_)
    refine w_nx (pc' := 31) rfl ?_
    refine w_nx (pc' := 32) rfl ?_
    refine w_nx (pc' := 33) rfl ?_
    obtain ⟨o, z1, e1, q1, q2⟩ := x_alike (d := d) hw hn (show j < n by omega) hi hs hL hto
    subst q2
    rw [q1] at e1
    refine w_cal (pc' := 36) rfl (a_cv0 rfl rfl rfl (hT) rfl rfl) (e1) ?_
    by_cases c : sg lk to j = sg lk to i
    · rw [decide_eq_true c]
      have ef : fs (fun k => decide (sg lk to k = sg lk to i)) i 0 = j := fs_eq (fun k _ hk => decide_eq_false (hne k hk)) (by omega) (by omega) (fun _ => decide_eq_true c)
      rw [ef] at cont
      exact w_ifne rfl rfl rfl (fun _ => cont) (fun g => absurd (show ¬ bI true = 0 by decide) g)
    · rw [decide_eq_false c]
      refine w_ifne rfl rfl rfl (fun g => absurd rfl g) (fun _ => ?_)
      refine w_iinc rfl rfl (nI_1 _) rfl rfl ?_
      refine w_nx (pc' := 20) rfl ?_
      refine ih (j + 1) (by omega) fun k hk => ?_
      by_cases ck : k = j
      · rw [ck]; exact c
      · exact hne k (by omega)
def F9 : Nat → Prop := fun b => b = 258 ∨ b = 259
/-- the new labels are written -/
theorem x_part1 {d n : Nat} {z : aSt} {lk : Nat → Option Nat} {to : Nat → Nat} {v1 : Int32} {Q : aRes → aSt → Prop} (hw : twS z) (h3 : gI z 100 3 = nI n) (hn : n ≤ 40) (hs : lks lk) (hL : lkI z 258 n lk) (hto : toA z n to)
    (cont : ∀ z1 v3, frI (fun b => b = 259) z z1 → lkI z1 259 n (rfn to lk) → wR (aEx (d + 1)) aM_X1_part Q 72 [some (.ref 100), some (.int v1), some (.int (nI n)), v3] [] z1) : ∀ (m i : Nat) (z1 : aSt) (v3 : Option Value), m + i = n → frI (fun b => b = 259) z z1 → (∀ k, k < i → gI z1 259 k = oI (rfn to lk k)) → wR (aEx (d + 1)) aM_X1_part Q 10 [some (.ref 100), some (.int v1), some (.int (nI i)), v3] [] z1 := by
  intro m
  induction m with
  | zero =>
    intro i z1 v3 hk f h
    have hk' : i = n := by omega
    have w1 := twS_frI hw f
    have hT : (gT z1 100).1 = 0 := by rw [w1.1]
    have c3 : gI z1 100 3 = nI n := (f.2.2.2.2.2 100 (by decide) 3).trans h3
    refine w_nx (pc' := 11) rfl ?_
    refine w_nx (pc' := 12) rfl ?_
    refine w_getI rfl rfl (hT) rfl rfl ?_
    refine w_top (c3) ?_
    refine w_ncge rfl rfl rfl (rfl) (rfl) (by omega) (by omega) (fun hb => ?_) (fun hb => ?_)
    · rw [hk'] at h ⊢
      exact cont z1 v3 f h
    · omega
  | succ m ih =>
    intro i z1 v3 hk f h
    have hi : i < n := by omega
    have w1 := twS_frI hw f
    have hT : (gT z1 100).1 = 0 := by rw [w1.1]
    have c3 : gI z1 100 3 = nI n := (f.2.2.2.2.2 100 (by decide) 3).trans h3
    have hL1 : lkI z1 258 n lk := fun k hk => (f.2.2.2.2.2 258 (by decide) k).trans (hL k hk)
    have hto1 := toA_frI hto f (by decide)
    refine w_nx (pc' := 11) rfl ?_
    refine w_nx (pc' := 12) rfl ?_
    refine w_getI rfl rfl (hT) rfl rfl ?_
    refine w_top (c3) ?_
    refine w_ncge rfl rfl rfl (rfl) (rfl) (by omega) (by omega) (fun hb => ?_) (fun hb => ?_)
    · omega
    · have tl : ∀ (v : Int32) (v3 : Option Value), v = oI (rfn to lk i) → wR (aEx (d + 1)) aM_X1_part Q 65 [some (.ref 100), some (.int v1), some (.int (nI i)), v3] [.int v, .int (nI i), .ref 259] z1 := by
        intro v v3 hv
        subst hv
        refine w_ast (f := fun x => x) rfl (fun _ _ _ _ _ _ => rfl) (w1.2.2.2.1.2.2.2.1) (by decide) (rfl) (by omega) (by decide) rfl ?_
        refine w_iinc rfl rfl (nI_1 _) rfl rfl ?_
        refine w_nx (pc' := 10) rfl ?_
        refine ih (i + 1) (sI z1 259 i (oI (rfn to lk i))) v3 (by omega) (frI_trans f (frI_sI rfl)) fun k hk => ?_
        by_cases c : k = i
        · subst c; exact gI_same ..
        · exact (gI_nk c).trans (h k (by omega))
      refine w_nx (pc' := 19) (S' := .int (nI 0) :: _) rfl ?_
      refine w_nx (pc' := 20) rfl ?_
      by_cases hk : lk i = none
      · refine w_nx (pc' := 21) rfl ?_
        refine w_getR rfl rfl (hT) (congrArg va_rf (w1.2.2.1.2.2.2.2.1)) rfl ?_
        refine w_nx (pc' := 25) rfl ?_
        refine w_ald rfl (fun _ _ _ _ _ _ => rfl) (w1.2.2.2.1.2.2.1) rfl (rfl) (by omega) (by decide) rfl rfl ?_
        refine w_top (hL1 i hi) ?_
        refine w_nx (pc' := 27) (S' := .int ((-1)) :: _) rfl ?_
        refine w_iceq rfl rfl rfl (fun _ => ?_) (fun g => absurd ((oI_none (hs i (by omega))).mpr hk) g)
        refine w_nx (pc' := 46) rfl ?_
        refine w_getR rfl rfl (hT) (congrArg va_rf (w1.2.2.1.2.2.2.2.2.1)) rfl ?_
        refine w_nx (pc' := 50) rfl ?_
        refine w_nx (pc' := 51) rfl ?_
        refine w_getR rfl rfl (hT) (congrArg va_rf (w1.2.2.1.2.2.2.2.1)) rfl ?_
        refine w_nx (pc' := 55) rfl ?_
        refine w_ald rfl (fun _ _ _ _ _ _ => rfl) (w1.2.2.2.1.2.2.1) rfl (rfl) (by omega) (by decide) rfl rfl ?_
        refine w_top (hL1 i hi) ?_
        refine w_nx (pc' := 57) (S' := .int ((-1)) :: _) rfl ?_
        refine w_icne rfl rfl rfl (fun g => absurd ((oI_none (hs i (by omega))).mpr hk) g) (fun _ => ?_)
        refine w_nx (pc' := 61) (S' := .int ((-1)) :: _) rfl ?_
        refine w_nx (pc' := 65) rfl ?_
        exact tl _ _ (by rw [rfn_none.mpr hk]; rfl)
      · refine x_partJ w1 hn hi hs hL1 hto1 hk ?_ i 0 rfl (fun k hk => absurd hk (by omega))
        refine w_nx (pc' := 46) rfl ?_
        refine w_getR rfl rfl (hT) (congrArg va_rf (w1.2.2.1.2.2.2.2.2.1)) rfl ?_
        refine w_nx (pc' := 50) rfl ?_
        refine w_nx (pc' := 51) rfl ?_
        refine w_getR rfl rfl (hT) (congrArg va_rf (w1.2.2.1.2.2.2.2.1)) rfl ?_
        refine w_nx (pc' := 55) rfl ?_
        refine w_ald rfl (fun _ _ _ _ _ _ => rfl) (w1.2.2.2.1.2.2.1) rfl (rfl) (by omega) (by decide) rfl rfl ?_
        refine w_top (hL1 i hi) ?_
        refine w_nx (pc' := 57) (S' := .int ((-1)) :: _) rfl ?_
        refine w_icne rfl rfl rfl (fun _ => ?_) (fun g => absurd (fun e => hk ((oI_none (hs i (by omega))).mp e)) g)
        refine w_nx (pc' := 65) rfl ?_
        refine tl _ _ ?_
        unfold rfn
        cases hk2 : lk i with
        | none => exact absurd hk2 hk
        | some u => rfl
/-- they become the labels -/
theorem x_part2 {d n : Nat} {z : aSt} {lk lk' : Nat → Option Nat} {Q : aRes → aSt → Prop} {v3 : Option Value} (hw : twS z) (h3 : gI z 100 3 = nI n) (hn : n ≤ 40) (hs : lks lk) (hs' : lks lk') (hL : lkI z 258 n lk) (hL' : lkI z 259 n lk')
    (cont : ∀ z1, frI (fun b => b = 258) z z1 → lkI z1 258 n lk' → wR (aEx (d + 1)) aM_X1_part Q 2 [some (.ref 100), some (.int (bI (!(sam n lk lk')))), some (.int (nI n)), v3] [] z1) : ∀ (m i : Nat) (z1 : aSt), m + i = n → frI (fun b => b = 258) z z1 → (∀ k, k < i → gI z1 258 k = oI (lk' k)) → (∀ k, i ≤ k → k < n → gI z1 258 k = oI (lk k)) → wR (aEx (d + 1)) aM_X1_part Q 74 [some (.ref 100), some (.int (bI (!(sam i lk lk')))), some (.int (nI i)), v3] [] z1 := by
  intro m
  induction m with
  | zero =>
    intro i z1 hk f h h'
    have hk' : i = n := by omega
    have w1 := twS_frI hw f
    have hT : (gT z1 100).1 = 0 := by rw [w1.1]
    have c3 : gI z1 100 3 = nI n := (f.2.2.2.2.2 100 (by decide) 3).trans h3
    refine w_nx (pc' := 75) rfl ?_
    refine w_nx (pc' := 76) rfl ?_
    refine w_getI rfl rfl (hT) rfl rfl ?_
    refine w_top (c3) ?_
    refine w_ncge rfl rfl rfl (rfl) (rfl) (by omega) (by omega) (fun hb => ?_) (fun hb => ?_)
    · refine w_nx (pc' := 2) rfl ?_
      rw [hk'] at h ⊢
      exact cont z1 f h
    · omega
  | succ m ih =>
    intro i z1 hk f h h'
    have hi : i < n := by omega
    have w1 := twS_frI hw f
    have hT : (gT z1 100).1 = 0 := by rw [w1.1]
    have c3 : gI z1 100 3 = nI n := (f.2.2.2.2.2 100 (by decide) 3).trans h3
    have hL1 : gI z1 259 i = oI (lk' i) := (f.2.2.2.2.2 259 (by decide) i).trans (hL' i hi)
    refine w_nx (pc' := 75) rfl ?_
    refine w_nx (pc' := 76) rfl ?_
    refine w_getI rfl rfl (hT) rfl rfl ?_
    refine w_top (c3) ?_
    refine w_ncge rfl rfl rfl (rfl) (rfl) (by omega) (by omega) (fun hb => ?_) (fun hb => ?_)
    · omega
    · have hsam : ∀ e : Bool, (e = true ↔ lk i ≠ lk' i) → (!(sam i lk lk') || e) = !(sam (i + 1) lk lk') := by
        intro e he
        unfold sam
        rw [all_succ]
        by_cases c : lk i = lk' i
        · have : e = false := Bool.eq_false_iff.mpr fun g => he.mp g c
          rw [this, decide_eq_true c, Bool.or_false, Bool.and_true]
        · rw [he.mpr c, decide_eq_false c, Bool.or_true, Bool.and_false]
          rfl
      have tl : ∀ e : Bool, (e = true ↔ lk i ≠ lk' i) → wR (aEx (d + 1)) aM_X1_part Q 103 [some (.ref 100), some (.int (bI (!(sam i lk lk')))), some (.int (nI i)), v3] [.int (bI e), .int (bI (!(sam i lk lk')))] z1 := by
        intro e he
        refine w_nx (pc' := 104) rfl ?_
        refine w_top ((bI_or _ e).trans (congrArg bI (hsam e he))) ?_
        refine w_nx (pc' := 105) rfl ?_
        refine w_nx (pc' := 106) rfl ?_
        refine w_getR rfl rfl (hT) (congrArg va_rf (w1.2.2.1.2.2.2.2.1)) rfl ?_
        refine w_nx (pc' := 110) rfl ?_
        refine w_nx (pc' := 111) rfl ?_
        refine w_getR rfl rfl (hT) (congrArg va_rf (w1.2.2.1.2.2.2.2.2.1)) rfl ?_
        refine w_nx (pc' := 115) rfl ?_
        refine w_ald rfl (fun _ _ _ _ _ _ => rfl) (w1.2.2.2.1.2.2.2.1) rfl (rfl) (by omega) (by decide) rfl rfl ?_
        refine w_top (hL1) ?_
        refine w_ast (f := fun x => x) rfl (fun _ _ _ _ _ _ => rfl) (w1.2.2.2.1.2.2.1) (by decide) (rfl) (by omega) (by decide) rfl ?_
        refine w_iinc rfl rfl (nI_1 _) rfl rfl ?_
        refine w_nx (pc' := 74) rfl ?_
        refine ih (i + 1) _ (by omega) (frI_trans f (frI_sI rfl)) (fun k hk => ?_) (fun k hk hk2 => ?_)
        · by_cases c : k = i
          · subst c; exact gI_same ..
          · exact (gI_nk c).trans (h k (by omega))
        · exact (gI_nk (by omega)).trans (h' k (by omega) hk2)
      refine w_nx (pc' := 83) rfl ?_
      refine w_nx (pc' := 84) rfl ?_
      refine w_getR rfl rfl (hT) (congrArg va_rf (w1.2.2.1.2.2.2.2.1)) rfl ?_
      refine w_nx (pc' := 88) rfl ?_
      refine w_ald rfl (fun _ _ _ _ _ _ => rfl) (w1.2.2.2.1.2.2.1) rfl (rfl) (by omega) (by decide) rfl rfl ?_
      refine w_top (h' i (Nat.le_refl _) hi) ?_
      refine w_nx (pc' := 90) rfl ?_
      refine w_getR rfl rfl (hT) (congrArg va_rf (w1.2.2.1.2.2.2.2.2.1)) rfl ?_
      refine w_nx (pc' := 94) rfl ?_
      refine w_ald rfl (fun _ _ _ _ _ _ => rfl) (w1.2.2.2.1.2.2.2.1) rfl (rfl) (by omega) (by decide) rfl rfl ?_
      refine w_top (hL1) ?_
      refine w_iceq rfl rfl rfl (fun g => ?_) (fun g => ?_)
      · refine w_nx (pc' := 103) (S' := .int (nI 0) :: _) rfl ?_
        exact tl false ⟨fun h => (by cases h), fun h => absurd (oI_inj (hs i (by omega)) (hs' i (by omega)) g) h⟩
      · refine w_nx (pc' := 99) (S' := .int (nI 1) :: _) rfl ?_
        refine w_nx (pc' := 103) rfl ?_
        exact tl true ⟨fun _ h => g (congrArg oI h), fun _ => rfl⟩
theorem lks_w {lk : Nat → Option Nat} (h : lkw lk) : lks lk := fun i hi v hv => by
  have := h i v hv
  omega
theorem x_partR {d n : Nat} {z : aSt} {to : Nat → Nat} (hw : twS z) (h3 : gI z 100 3 = nI n) (hn : n ≤ 40) (hto : toA z n to) : ∀ (f : Nat) (lk : Nat → Option Nat) (z1 : aSt) (v2 v3 : Option Value), gap lk n ≤ f → lkw lk → frI F9 z z1 → lkI z1 258 n lk → wR (aEx (d + 1)) aM_X1_part (fun o z' => o = .inl none ∧ frI F9 z z' ∧ lkI z' 258 n (prt to n (f + 1) lk)) 2 [some (.ref 100), some (.int (nI 1)), v2, v3] [] z1 := by
  intro f
  induction f with
  | zero =>
    intro lk z1 v2 v3 hc hlw f1 h
    have hs := lks_w hlw
    have hs' : lks (rfn to lk) := lks_w rfn_w
    have hm : sam n lk (rfn to lk) = true := by
      cases hh : sam n lk (rfn to lk)
      · have := gap_lt hlw n hh; omega
      · rfl
    have w1 := twS_frI hw f1
    have c3 : gI z1 100 3 = nI n := (f1.2.2.2.2.2 100 (by unfold F9; decide) 3).trans h3
    refine w_nx (pc' := 3) rfl ?_
    refine w_ifeq rfl rfl rfl (fun g => absurd g (by decide)) (fun _ => ?_)
    refine w_nx (pc' := 7) (S' := .int (nI 0) :: _) rfl ?_
    refine w_nx (pc' := 8) rfl ?_
    refine w_nx (pc' := 9) (S' := .int (nI 0) :: _) rfl ?_
    refine w_nx (pc' := 10) rfl ?_
    refine x_part1 w1 c3 hn hs h (toA_frI hto f1 (by unfold F9; decide)) ?_ n 0 z1 v3 rfl (frI_refl z1) (fun k hk => absurd hk (by omega))
    intro z2 v3 f2 h2
    have c32 : gI z2 100 3 = nI n := (f2.2.2.2.2.2 100 (by decide) 3).trans c3
    have h258 : lkI z2 258 n lk := fun k hk => (f2.2.2.2.2.2 258 (by decide) k).trans (h k hk)
    refine w_nx (pc' := 73) (S' := .int (nI 0) :: _) rfl ?_
    refine w_nx (pc' := 74) rfl ?_
    refine x_part2 (lk := lk) (twS_frI w1 f2) c32 hn hs hs' h258 h2 ?_ n 0 z2 rfl (frI_refl z2) (fun k hk => absurd hk (by omega)) (fun k _ hk => h258 k hk)
    intro z3 f3 h3'
    rw [hm]
    refine w_nx (pc' := 3) rfl ?_
    refine w_ifeq rfl rfl rfl (fun _ => ?_) (fun g => absurd rfl g)
    have e : prt to n 1 lk = rfn to lk := by
      show (if sam n lk (rfn to lk) = true then _ else _) = _
      rw [if_pos hm]
    rw [e]
    exact w_fin rfl ⟨rfl, frI_trans f1 (frI_trans (frI_mono f2 fun b g => .inr g) (frI_mono f3 fun b g => .inl g)), h3'⟩
  | succ f ih =>
    intro lk z1 v2 v3 hc hlw f1 h
    have hs := lks_w hlw
    have hs' : lks (rfn to lk) := lks_w rfn_w
    have w1 := twS_frI hw f1
    have c3 : gI z1 100 3 = nI n := (f1.2.2.2.2.2 100 (by unfold F9; decide) 3).trans h3
    refine w_nx (pc' := 3) rfl ?_
    refine w_ifeq rfl rfl rfl (fun g => absurd g (by decide)) (fun _ => ?_)
    refine w_nx (pc' := 7) (S' := .int (nI 0) :: _) rfl ?_
    refine w_nx (pc' := 8) rfl ?_
    refine w_nx (pc' := 9) (S' := .int (nI 0) :: _) rfl ?_
    refine w_nx (pc' := 10) rfl ?_
    refine x_part1 w1 c3 hn hs h (toA_frI hto f1 (by unfold F9; decide)) ?_ n 0 z1 v3 rfl (frI_refl z1) (fun k hk => absurd hk (by omega))
    intro z2 v3 f2 h2
    have c32 : gI z2 100 3 = nI n := (f2.2.2.2.2.2 100 (by decide) 3).trans c3
    have h258 : lkI z2 258 n lk := fun k hk => (f2.2.2.2.2.2 258 (by decide) k).trans (h k hk)
    refine w_nx (pc' := 73) (S' := .int (nI 0) :: _) rfl ?_
    refine w_nx (pc' := 74) rfl ?_
    refine x_part2 (lk := lk) (twS_frI w1 f2) c32 hn hs hs' h258 h2 ?_ n 0 z2 rfl (frI_refl z2) (fun k hk => absurd hk (by omega)) (fun k _ hk => h258 k hk)
    intro z3 f3 h3'
    have ff : frI F9 z z3 := frI_trans f1 (frI_trans (frI_mono f2 fun b g => .inr g) (frI_mono f3 fun b g => .inl g))
    cases hm : sam n lk (rfn to lk)
    · have e : prt to n (f + 1 + 1) lk = prt to n (f + 1) (rfn to lk) := by
        show (if sam n lk (rfn to lk) = true then _ else _) = _
        rw [if_neg (by rw [hm]; decide)]
      rw [e]
      have := gap_lt hlw n hm
      exact ih (rfn to lk) z3 _ _ (by omega) rfn_w ff h3'
    · refine w_nx (pc' := 3) rfl ?_
      refine w_ifeq rfl rfl rfl (fun _ => ?_) (fun g => absurd rfl g)
      have e : prt to n (f + 1 + 1) lk = rfn to lk := by
        show (if sam n lk (rfn to lk) = true then _ else _) = _
        rw [if_pos hm]
      rw [e]
      exact w_fin rfl ⟨rfl, ff, h3'⟩
theorem bo_w (B : Nat → Bool) : lkw (bo B) := fun i v h => by
  unfold bo at h
  split at h
  · cases h
  · have := Option.some.inj h; omega
theorem x_part {d n : Nat} {z : aSt} {to : Nat → Nat} {lk : Nat → Option Nat} (hw : twS z) (h3 : gI z 100 3 = nI n) (hn : n ≤ 40) (hto : toA z n to) (hlw : lkw lk) (hL : lkI z 258 n lk) : aW (d + 2) 19 [.ref 100] z (fun o z' => o = .inl none ∧ frI F9 z z' ∧ lkI z' 258 n (prt to n 1601 lk)) := by
  refine w_of (k := 19) (m := aM_X1_part) rfl rfl ?_
  refine w_nx (pc' := 1) (S' := .int (nI 1) :: _) rfl ?_
  refine w_nx (pc' := 2) rfl ?_
  have h1 := gap_le lk n
  have h2 : n * n ≤ 40 * 40 := Nat.mul_le_mul hn hn
  exact x_partR hw h3 hn hto 1600 lk z _ _ (by omega) hlw (frI_refl z) hL
