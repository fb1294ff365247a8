/-! TraceWarden.fail -/
set_option maxRecDepth 100000
/-- an array of labels -/
def lkI (z : aSt) (a n : Nat) (lk : Nat → Option Nat) : Prop := ∀ i, i < n → gI z a i = oI (lk i)
/-- where the conditions lead -/
def toA (z : aSt) (n : Nat) (to : Nat → Nat) : Prop := ∀ i, i < 8 * n → gI z 257 i = nI (to i) ∧ to i < n
def bo (B : Nat → Bool) (i : Nat) : Option Nat := if B i = true then none else some 0
theorem bo_s (B : Nat → Bool) (i : Nat) : sml (bo B i) := by
  intro v h
  unfold bo at h
  split at h
  · cases h
  · rw [← Option.some.inj h]; decide
theorem bo_n {B : Nat → Bool} {i : Nat} : bo B i = none ↔ B i = true := by
  unfold bo
  split
  · next h => exact ⟨fun _ => h, fun _ => rfl⟩
  · next h => exact ⟨fun g => (by cases g), fun g => absurd g h⟩
theorem twS_frI {F : Nat → Prop} {z z1 : aSt} (h : twS z) (f : frI F z z1) : twS z1 := twS_of h f.fr.1 (fun b hb => f.fr.2.1 b (twS_lv h hb)) (fun k _ _ => by rw [f.2.2.1]) (fun k => by rw [f.2.2.1])
theorem toA_frI {F : Nat → Prop} {z z1 : aSt} {n : Nat} {to : Nat → Nat} (h : toA z n to) (f : frI F z z1) (hF : ¬ F 257) : toA z1 n to := fun i hi => ⟨(f.2.2.2.2.2 257 hF i).trans (h i hi).1, (h i hi).2⟩
theorem bI_and (a b : Bool) : bI a &&& bI b = bI (a && b) := by cases a <;> cases b <;> rfl
theorem bI_or (a b : Bool) : bI a ||| bI b = bI (a || b) := by cases a <;> cases b <;> rfl
theorem all_succ {f : Nat → Bool} {x : Nat} : (List.range (x + 1)).all f = ((List.range x).all f && f x) := by
  rw [List.range_succ, List.all_append]
  simp
theorem x_fail1 {d n : Nat} {z : aSt} {B : Nat → Bool} {U : Nat → Nat → Prop} {v2 v3 v4 : Option Value} {Q : aRes → aSt → Prop} (hw : twS z) (h3 : gI z 100 3 = nI n) (hn : n ≤ 40) (hr : ∀ i, i < n → isRow z (351 + 2 * i) (U i)) (hB : ∀ i, i < n → (B i = true ↔ ∀ x, ¬ U i x))
    (cont : ∀ z1, frI (fun b => b = 258) z z1 → lkI z1 258 n (bo B) → wR (aEx d) aM_X1_fail Q 39 [some (.ref 100), some (.int (nI n)), v2, v3, v4] [] z1) : ∀ (m k : Nat) (z1 : aSt), m + k = n → frI (fun b => b = 258) z z1 → (∀ i, i < k → gI z1 258 i = oI (bo B i)) → wR (aEx d) aM_X1_fail Q 2 [some (.ref 100), some (.int (nI k)), v2, v3, v4] [] z1 := by
  intro m
  induction m with
  | zero =>
    intro k z1 hk f h
    have hk' : k = n := by omega
    have w1 := twS_frI hw f
    have hT : (gT z1 100).1 = 0 := by rw [w1.1]
    have c3 : gI z1 100 3 = nI n := (f.2.2.2.2.2 100 (by decide) 3).trans h3
    refine w_nx (pc' := 3) rfl ?_
    refine w_nx (pc' := 4) rfl ?_
    refine w_getI rfl rfl (hT) rfl rfl ?_
    refine w_top (c3) ?_
    refine w_ncge rfl rfl rfl (rfl) (rfl) (by omega) (by omega) (fun hb => ?_) (fun hb => ?_)
    · rw [hk'] at h ⊢
      exact cont z1 f h
    · omega
  | succ m ih =>
    intro k z1 hk f h
    have hk' : k < n := by omega
    have w1 := twS_frI hw f
    have hT : (gT z1 100).1 = 0 := by rw [w1.1]
    have c3 : gI z1 100 3 = nI n := (f.2.2.2.2.2 100 (by decide) 3).trans h3
    obtain ⟨l, l1, l2, l3⟩ := isRow_fr2 (hr k hk') f.fr (by omega) (by omega) (twS_lv hw (by omega))
    have hTk : (gT z1 (351 + 2 * k)).1 = 4 := by rw [l1.1.1]
    have hll := ok_len l2
    have hBk := hB k hk'
    refine w_nx (pc' := 3) rfl ?_
    refine w_nx (pc' := 4) rfl ?_
    refine w_getI rfl rfl (hT) rfl rfl ?_
    refine w_top (c3) ?_
    refine w_ncge rfl rfl rfl (rfl) (rfl) (by omega) (by omega) (fun hb => ?_) (fun hb => ?_)
    · omega
    · have tl : ∀ v : Int32, v = oI (bo B k) → wR (aEx d) aM_X1_fail Q 32 [some (.ref 100), some (.int (nI k)), v2, v3, v4] [.int v, .int (nI k), .ref 258] z1 := by
        intro v hv
        subst hv
        refine w_ast (f := fun x => x) rfl (fun _ _ _ _ _ _ => rfl) (w1.2.2.2.1.2.2.1) (by decide) (rfl) (by omega) (by decide) rfl ?_
        refine w_iinc rfl rfl (nI_1 _) rfl rfl ?_
        refine w_nx (pc' := 2) rfl ?_
        refine ih (k + 1) _ (by omega) (frI_trans f (frI_sI rfl)) fun i hi => ?_
        by_cases c : i = k
        · subst c; exact gI_same ..
        · exact (gI_nk c).trans (h i (by omega))
      refine w_nx (pc' := 11) rfl ?_
      refine w_getR rfl rfl (hT) (congrArg va_rf (w1.2.2.1.2.2.2.2.1)) rfl ?_
      refine w_nx (pc' := 15) rfl ?_
      refine w_nx (pc' := 16) rfl ?_
      refine w_getR rfl rfl (hT) (congrArg va_rf (w1.2.2.1.2.2.1)) rfl ?_
      refine w_nx (pc' := 20) rfl ?_
      refine w_ald rfl (fun _ _ _ _ _ _ => rfl) (w1.2.2.2.1.1) rfl (rfl) (by omega) (by decide) (congrArg va_rf (w1.2.2.2.2 k (by omega))) rfl ?_
      refine w_getI rfl rfl (hTk) rfl rfl ?_
      refine w_top (l1.2.1) ?_
      by_cases cl : l = []
      · subst cl
        refine w_ifne rfl rfl rfl (fun g => absurd rfl g) (fun _ => ?_)
        refine w_nx (pc' := 28) (S' := .int ((-1)) :: _) rfl ?_
        refine w_nx (pc' := 32) rfl ?_
        refine tl _ ?_
        have : B k = true := hBk.mpr fun x hx => up_nil ((l3 x).mp hx)
        rw [bo_n.mpr this]
        rfl
      · have hp : 0 < l.length := List.length_pos_iff.mpr cl
        refine w_ifne rfl rfl rfl (fun _ => ?_) (fun g => absurd (fun e => by have := nI_inj (b := 0) (by omega) (by decide) e; omega) g)
        refine w_nx (pc' := 32) (S' := .int (nI 0) :: _) rfl ?_
        refine tl _ ?_
        have : ¬ B k = true := fun g => by
          have h1 := hBk.mp g (l.getD 0 0)
          exact h1 ((l3 _).mpr ⟨l.getD 0 0, get_mem hp, sb_refl _⟩)
        unfold bo
        rw [if_neg this]
        rfl
theorem x_failX {d n k : Nat} {z : aSt} {B : Nat → Bool} {to : Nat → Nat} {v1 : Option Value} {Q : aRes → aSt → Prop} (hw : twS z) (hn : n ≤ 40) (hk : k < n) (hL : lkI z 258 n (bo B)) (hto : toA z n to)
    (cont : wR (aEx d) aM_X1_fail Q 104 [some (.ref 100), v1, some (.int (nI k)), some (.int (bI (al8 to B k))), some (.int (nI 8))] [] z) : ∀ (m x : Nat) (b : Bool), m + x = 8 → b = ((List.range x).all fun y => B (to (8 * k + y))) → wR (aEx d) aM_X1_fail Q 62 [some (.ref 100), v1, some (.int (nI k)), some (.int (bI b)), some (.int (nI x))] [] z := by
  have hT : (gT z 100).1 = 0 := by rw [hw.1]
  intro m
  induction m with
  | zero =>
    intro x b hx hb'
    have e : x = 8 := by omega
    subst e
    refine w_nx (pc' := 64) rfl ?_
    refine w_nx (pc' := 66) (S' := .int (nI 8) :: _) rfl ?_
    refine w_ncge rfl rfl rfl (rfl) (rfl) (by decide) (by decide) (fun hb => ?_) (fun hb => ?_)
    · rw [hb']
      exact cont
    · exact absurd hb (by decide)
  | succ m ih =>
    intro x b hx hb'
    refine w_nx (pc' := 64) rfl ?_
    refine w_nx (pc' := 66) (S' := .int (nI 8) :: _) rfl ?_
    refine w_ncge rfl rfl rfl (rfl) (rfl) (by omega) (by omega) (fun hb => ?_) (fun hb => ?_)
    · omega
    · have ht := hto (8 * k + x) (by omega)
      have hl := hL (to (8 * k + x)) ht.2
      have tl : ∀ c : Bool, c = B (to (8 * k + x)) → wR (aEx d) aM_X1_fail Q 96 [some (.ref 100), v1, some (.int (nI k)), some (.int (bI b)), some (.int (nI x))] [.int (bI c), .int (bI b)] z := by
        intro c hc
        refine w_nx (pc' := 97) rfl ?_
        refine w_top (bI_and b c) ?_
        refine w_nx (pc' := 98) rfl ?_
        refine w_iinc rfl rfl (nI_1 _) rfl rfl ?_
        refine w_nx (pc' := 62) rfl ?_
        refine ih (x + 1) _ (by omega) ?_
        rw [all_succ, ← hb', hc]
      refine w_nx (pc' := 70) rfl ?_
      refine w_nx (pc' := 71) rfl ?_
      refine w_getR rfl rfl (hT) (congrArg va_rf (hw.2.2.1.2.2.2.2.1)) rfl ?_
      refine w_nx (pc' := 75) rfl ?_
      refine w_getR rfl rfl (hT) (congrArg va_rf (hw.2.2.1.2.2.2.1)) rfl ?_
      refine w_nx (pc' := 80) (S' := .int (nI 8) :: _) rfl ?_
      refine w_nx (pc' := 81) rfl ?_
      refine w_nx (pc' := 82) rfl ?_
      refine w_top (pk_mul _ _) ?_
      refine w_nx (pc' := 84) rfl ?_
      refine w_nx (pc' := 85) rfl ?_
      refine w_top (nI_add _ _) ?_
      refine w_ald rfl (fun _ _ _ _ _ _ => rfl) (hw.2.2.2.1.2.1) rfl rfl (show 8 * k + x < 320 by omega) (by decide) rfl rfl ?_
      refine w_top ht.1 ?_
      refine w_ald rfl (fun _ _ _ _ _ _ => rfl) (hw.2.2.2.1.2.2.1) rfl rfl (show to (8 * k + x) < 40 by omega) (by decide) rfl rfl ?_
      refine w_top hl ?_
      refine w_nx (pc' := 88) (S' := .int ((-1)) :: _) rfl ?_
      refine w_icne rfl rfl rfl (fun g => ?_) (fun g => ?_)
      · refine w_nx (pc' := 96) (S' := .int (nI 0) :: _) rfl ?_
        refine tl false ?_
        cases hB : B (to (8 * k + x))
        · rfl
        · exact absurd ((oI_none (bo_s _ _)).mpr (bo_n.mpr hB)) g
      · refine w_nx (pc' := 92) (S' := .int (nI 1) :: _) rfl ?_
        refine w_nx (pc' := 96) rfl ?_
        exact tl true (bo_n.mp ((oI_none (bo_s _ _)).mp (Classical.not_not.mp g))).symm
/-- a sweep -/
theorem x_failK {d n : Nat} {z : aSt} {B : Nat → Bool} {to : Nat → Nat} {Q : aRes → aSt → Prop} (hw : twS z) (h3 : gI z 100 3 = nI n) (hn : n ≤ 40) (hto : toA z n to)
    (cont : ∀ z1 v3 v4, frI (fun b => b = 258) z z1 → lkI z1 258 n (bo (swp to B n)) → wR (aEx d) aM_X1_fail Q 41 [some (.ref 100), some (.int (bI (mor to B n))), some (.int (nI n)), v3, v4] [] z1) : ∀ (m k : Nat) (z1 : aSt) (v3 v4 : Option Value), m + k = n → frI (fun b => b = 258) z z1 → lkI z1 258 n (bo (swp to B k)) → wR (aEx d) aM_X1_fail Q 49 [some (.ref 100), some (.int (bI (mor to B k))), some (.int (nI k)), v3, v4] [] z1 := by
  intro m
  induction m with
  | zero =>
    intro k z1 v3 v4 hk f h
    have hk' : k = n := by omega
    have w1 := twS_frI hw f
    have hT : (gT z1 100).1 = 0 := by rw [w1.1]
    have c3 : gI z1 100 3 = nI n := (f.2.2.2.2.2 100 (by decide) 3).trans h3
    refine w_nx (pc' := 50) rfl ?_
    refine w_nx (pc' := 51) rfl ?_
    refine w_getI rfl rfl (hT) rfl rfl ?_
    refine w_top (c3) ?_
    refine w_ncge rfl rfl rfl (rfl) (rfl) (by omega) (by omega) (fun hb => ?_) (fun hb => ?_)
    · refine w_nx (pc' := 41) rfl ?_
      rw [hk'] at h ⊢
      exact cont z1 v3 v4 f h
    · omega
  | succ m ih =>
    intro k z1 v3 v4 hk f h
    have hk' : k < n := by omega
    have w1 := twS_frI hw f
    have hT : (gT z1 100).1 = 0 := by rw [w1.1]
    have c3 : gI z1 100 3 = nI n := (f.2.2.2.2.2 100 (by decide) 3).trans h3
    refine w_nx (pc' := 50) rfl ?_
    refine w_nx (pc' := 51) rfl ?_
    refine w_getI rfl rfl (hT) rfl rfl ?_
    refine w_top (c3) ?_
    refine w_ncge rfl rfl rfl (rfl) (rfl) (by omega) (by omega) (fun hb => ?_) (fun hb => ?_)
    · omega
    · refine w_nx (pc' := 58) (S' := .int (nI 1) :: _) rfl ?_
      refine w_nx (pc' := 59) rfl ?_
      refine w_nx (pc' := 60) (S' := .int (nI 0) :: _) rfl ?_
      refine w_nx (pc' := 62) rfl ?_
      refine x_failX (B := swp to B k) (to := to) w1 hn hk' h (toA_frI hto f (by decide)) ?_ 8 0 true rfl rfl
      -- the end of a step: what the flags are
      have tl : ∀ z2, frI (fun b => b = 258) z z2 → lkI z2 258 n (bo (swp to B (k + 1))) → wR (aEx d) aM_X1_fail Q 137 [some (.ref 100), some (.int (bI (mor to B (k + 1)))), some (.int (nI k)), some (.int (bI (al8 to (swp to B k) k))), some (.int (nI 8))] [] z2 := by
        intro z2 f2 h2
        refine w_iinc rfl rfl (nI_1 _) rfl rfl ?_
        refine w_nx (pc' := 49) rfl ?_
        exact ih (k + 1) z2 _ _ (by omega) f2 h2
      have t2 : ∀ (e : Bool), e = (al8 to (swp to B k) k && !(swp to B k k)) → wR (aEx d) aM_X1_fail Q 124 [some (.ref 100), some (.int (bI (mor to B k))), some (.int (nI k)), some (.int (bI (al8 to (swp to B k) k))), some (.int (nI 8))] [.int (bI e), .int (bI (mor to B k))] z1 := by
        intro e he
        have hm : (mor to B k || e) = mor to B (k + 1) := by rw [he]; rfl
        refine w_nx (pc' := 125) rfl ?_
        refine w_top ((bI_or _ e).trans (congrArg bI hm)) ?_
        refine w_nx (pc' := 126) rfl ?_
        refine w_nx (pc' := 127) rfl ?_
        cases ha : al8 to (swp to B k) k
        · refine w_ifeq rfl rfl rfl (fun _ => ?_) (fun g => absurd rfl g)
          rw [ha] at tl
          refine tl z1 f fun i hi => ?_
          have : swp to B (k + 1) i = swp to B k i := by
            show (if i = k ∧ al8 to (swp to B k) k = true then true else swp to B k i) = _
            rw [if_neg (by rw [ha]; intro h; cases h.2)]
          rw [h i hi]
          unfold bo
          rw [this]
        · refine w_ifeq rfl rfl rfl (fun g => absurd g (by decide)) (fun _ => ?_)
          rw [ha] at tl
          refine w_nx (pc' := 131) rfl ?_
          refine w_getR rfl rfl (hT) (congrArg va_rf (w1.2.2.1.2.2.2.2.1)) rfl ?_
          refine w_nx (pc' := 135) rfl ?_
          refine w_nx (pc' := 136) (S' := .int ((-1)) :: _) rfl ?_
          refine w_ast (f := fun x => x) rfl (fun _ _ _ _ _ _ => rfl) (w1.2.2.2.1.2.2.1) (by omega) (rfl) (by omega) (by decide) rfl ?_
          refine tl _ (frI_trans f (frI_sI rfl)) fun i hi => ?_
          by_cases c : i = k
          · subst c
            have : swp to B (i + 1) i = true := by
              show (if i = i ∧ al8 to (swp to B i) i = true then true else swp to B i i) = _
              rw [if_pos ⟨rfl, ha⟩]
            rw [bo_n.mpr this]
            exact gI_same ..
          · have : swp to B (k + 1) i = swp to B k i := by
              show (if i = k ∧ al8 to (swp to B k) k = true then true else swp to B k i) = _
              rw [if_neg (fun g => c g.1)]
            rw [gI_nk c, h i hi]
            unfold bo
            rw [this]
      have hlk := h k hk'
      refine w_nx (pc' := 105) rfl ?_
      refine w_nx (pc' := 106) rfl ?_
      cases ha : al8 to (swp to B k) k
      · rw [ha] at t2
        refine w_ifeq rfl rfl rfl (fun _ => ?_) (fun g => absurd rfl g)
        refine w_nx (pc' := 124) (S' := .int (nI 0) :: _) rfl ?_
        exact t2 false (by rfl)
      · rw [ha] at t2
        refine w_ifeq rfl rfl rfl (fun g => absurd g (by decide)) (fun _ => ?_)
        refine w_nx (pc' := 110) rfl ?_
        refine w_getR rfl rfl (hT) (congrArg va_rf (w1.2.2.1.2.2.2.2.1)) rfl ?_
        refine w_nx (pc' := 114) rfl ?_
        refine w_ald rfl (fun _ _ _ _ _ _ => rfl) (w1.2.2.2.1.2.2.1) rfl (rfl) (by omega) (by decide) rfl rfl ?_
        refine w_top (hlk) ?_
        refine w_nx (pc' := 116) (S' := .int ((-1)) :: _) rfl ?_
        refine w_iceq rfl rfl rfl (fun g => ?_) (fun g => ?_)
        · refine w_nx (pc' := 124) (S' := .int (nI 0) :: _) rfl ?_
          have := bo_n.mp ((oI_none (bo_s _ _)).mp g)
          exact t2 false (by rw [this]; rfl)
        · refine w_nx (pc' := 120) (S' := .int (nI 1) :: _) rfl ?_
          refine w_nx (pc' := 124) rfl ?_
          refine t2 true ?_
          cases hs : swp to B k k
          · rfl
          · exact absurd ((oI_none (bo_s _ _)).mpr (bo_n.mpr hs)) g
theorem fls_ext {to : Nat → Nat} {n : Nat} {B : Nat → Bool} (f : Nat) (h : mor to B n = false) : fls to n (f + 1) B = swp to B n := by
  show (if mor to B n = true then _ else _) = _
  rw [if_neg (by rw [h]; decide)]
theorem x_failR {d n : Nat} {z : aSt} {to : Nat → Nat} (hw : twS z) (h3 : gI z 100 3 = nI n) (hn : n ≤ 40) (hto : toA z n to) : ∀ (f : Nat) (B : Nat → Bool) (z1 : aSt) (v2 v3 v4 : Option Value), cnt B n ≤ f → frI (fun b => b = 258) z z1 → lkI z1 258 n (bo B) → wR (aEx d) aM_X1_fail (fun o z' => o = .inl none ∧ frI (fun b => b = 258) z z' ∧ lkI z' 258 n (bo (fls to n (f + 1) B))) 41 [some (.ref 100), some (.int (nI 1)), v2, v3, v4] [] z1 := by
  intro f
  induction f with
  | zero =>
    intro B z1 v2 v3 v4 hc f1 h
    have hm : mor to B n = false := by
      cases hh : mor to B n
      · rfl
      · have := cnt_mor hh; omega
    refine w_nx (pc' := 42) rfl ?_
    refine w_ifeq rfl rfl rfl (fun g => absurd g (by decide)) (fun _ => ?_)
    refine w_nx (pc' := 46) (S' := .int (nI 0) :: _) rfl ?_
    refine w_nx (pc' := 47) rfl ?_
    refine w_nx (pc' := 48) (S' := .int (nI 0) :: _) rfl ?_
    refine w_nx (pc' := 49) rfl ?_
    refine x_failK (B := B) (twS_frI hw f1) ((f1.2.2.2.2.2 100 (by decide) 3).trans h3) hn (toA_frI hto f1 (by decide)) ?_ n 0 z1 v3 v4 rfl (frI_refl z1) h
    intro z2 v3 v4 f2 h2
    rw [hm]
    refine w_nx (pc' := 42) rfl ?_
    refine w_ifeq rfl rfl rfl (fun _ => ?_) (fun g => absurd rfl g)
    rw [fls_ext 0 hm]
    exact w_fin rfl ⟨rfl, frI_trans f1 f2, h2⟩
  | succ f ih =>
    intro B z1 v2 v3 v4 hc f1 h
    refine w_nx (pc' := 42) rfl ?_
    refine w_ifeq rfl rfl rfl (fun g => absurd g (by decide)) (fun _ => ?_)
    refine w_nx (pc' := 46) (S' := .int (nI 0) :: _) rfl ?_
    refine w_nx (pc' := 47) rfl ?_
    refine w_nx (pc' := 48) (S' := .int (nI 0) :: _) rfl ?_
    refine w_nx (pc' := 49) rfl ?_
    refine x_failK (B := B) (twS_frI hw f1) ((f1.2.2.2.2.2 100 (by decide) 3).trans h3) hn (toA_frI hto f1 (by decide)) ?_ n 0 z1 v3 v4 rfl (frI_refl z1) h
    intro z2 v3 v4 f2 h2
    cases hm : mor to B n
    · refine w_nx (pc' := 42) rfl ?_
      refine w_ifeq rfl rfl rfl (fun _ => ?_) (fun g => absurd rfl g)
      rw [fls_ext _ hm]
      exact w_fin rfl ⟨rfl, frI_trans f1 f2, h2⟩
    · have e : fls to n (f + 1 + 1) B = fls to n (f + 1) (swp to B n) := by
        show (if mor to B n = true then _ else _) = _
        rw [if_pos hm]
      rw [e]
      have := cnt_mor hm
      exact ih (swp to B n) z2 _ _ _ (by omega) (frI_trans f1 f2) h2
theorem x_fail {d n : Nat} {z : aSt} {to : Nat → Nat} {B : Nat → Bool} {U : Nat → Nat → Prop} (hw : twS z) (h3 : gI z 100 3 = nI n) (hn : n ≤ 40) (hto : toA z n to) (hr : ∀ i, i < n → isRow z (351 + 2 * i) (U i)) (hB : ∀ i, i < n → (B i = true ↔ ∀ x, ¬ U i x)) : aW (d + 1) 18 [.ref 100] z (fun o z' => o = .inl none ∧ frI (fun b => b = 258) z z' ∧ lkI z' 258 n (bo (fls to n 41 B))) := by
  refine w_of (k := 18) (m := aM_X1_fail) rfl rfl ?_
  refine w_nx (pc' := 1) (S' := .int (nI 0) :: _) rfl ?_
  refine w_nx (pc' := 2) rfl ?_
  refine x_fail1 hw h3 hn hr hB ?_ n 0 z rfl (frI_refl z) (fun i hi => absurd hi (by omega))
  intro z1 f1 h1
  refine w_nx (pc' := 40) (S' := .int (nI 1) :: _) rfl ?_
  refine w_nx (pc' := 41) rfl ?_
  have := cnt_n B n
  exact x_failR hw h3 hn hto 40 B z1 _ _ _ (by omega) f1 h1
