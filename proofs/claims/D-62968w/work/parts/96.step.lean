/-! TraceWarden: along, step, loop, size, output -/
set_option maxRecDepth 100000
def go1 (many : Nat) (out : List (Option Nat)) (s : Option Nat) (l : Nat) : Option Nat := match s with
  | none => none
  | some j => nxO many out j l
/-- where a run comes to, by c letters from k on -/
def goR (many : Nat) (out : List (Option Nat)) (tr : List Nat) : Nat → Nat → Option Nat → Option Nat
  | _, 0, s => s
  | k, c + 1, s => goR many out tr (k + 1) c (go1 many out s (tr.getD k 0))
theorem goR_none {many : Nat} {out : List (Option Nat)} {tr : List Nat} : ∀ c k, goR many out tr k c none = none
  | 0, _ => rfl
  | c + 1, k => goR_none c (k + 1)
theorem goR_snoc {many : Nat} {out : List (Option Nat)} {tr : List Nat} : ∀ c k s, goR many out tr k (c + 1) s = go1 many out (goR many out tr k c s) (tr.getD (k + c) 0)
  | 0, _, _ => rfl
  | c + 1, k, s => by
    show goR many out tr (k + 1) (c + 1) _ = _
    rw [goR_snoc c (k + 1)]
    show _ = go1 many out (goR many out tr (k + 1) c _) _
    rw [show k + 1 + c = k + (c + 1) by omega]
theorem goR_ext {many : Nat} {out : List (Option Nat)} {tr tr' : List Nat} : ∀ c k s, (∀ i, k ≤ i → i < k + c → tr'.getD i 0 = tr.getD i 0) → goR many out tr' k c s = goR many out tr k c s
  | 0, _, _, _ => rfl
  | c + 1, k, s, h => by
    show goR many out tr' (k + 1) c _ = goR many out tr (k + 1) c _
    rw [h k (Nat.le_refl _) (by omega)]
    exact goR_ext c (k + 1) _ fun i h1 h2 => h i (by omega) (by omega)
def okS (many : Nat) (s : Option Nat) : Prop := ∀ j, s = some j → j < many
theorem okS_go1 {z : aSt} {many l : Nat} {out : List (Option Nat)} (hr : monR z many out) {s : Option Nat} (hl : l < 8) : okS many (go1 many out s l) := by
  intro j hj
  cases s with
  | none => cases hj
  | some i => exact nxO_lt hr hl hj
/-- the trace -/
def trS (z : aSt) (tr : List Nat) : Prop := gT z 350 = (43, 60) ∧ tr.length ≤ 60 ∧ ∀ i, i < tr.length → gI z 350 i = nI (tr.getD i 0) ∧ tr.getD i 0 < 8
theorem x_alongL {d many e : Nat} {out : List (Option Nat)} {tr : List Nat} {z : aSt} {v1 : Value} {b : Nat} (hv : v1 = .null ∨ ∃ a, v1 = .ref a) (hw : twS z) (hm : monS z) (hr : monR z many out) (ht : trS z tr) (he : e ≤ tr.length) : ∀ (c k : Nat) (s : Option Nat), k + c = e → okS many s → wR (aEx d) aM_X1_along (fun o z' => z' = z ∧ o = .inl (some (va_rf (nxS (goR many out tr k c s))))) 6 [some (.ref 100), some v1, some (.int (nI b)), some (.int (nI e)), some (va_rf (nxS s)), some (.int (nI k))] [] z := by
  have hT : (gT z 100).1 = 0 := by rw [hw.1]
  have h60 := ht.2.1
  have h40 := hr.2.1
  intro c
  induction c with
  | zero =>
    intro k s hk hs
    cases s with
    | none =>
      refine w_nx (pc' := 8) rfl ?_
      refine w_nx (pc' := 9) rfl ?_
      refine w_ncge rfl rfl rfl (rfl) (rfl) (by omega) (by omega) (fun hb => ?_) (fun hb => ?_)
      · refine w_nx (pc' := 40) rfl ?_
        exact w_fin rfl ⟨rfl, rfl⟩
      · omega
    | some j =>
      refine w_nx (pc' := 8) rfl ?_
      refine w_nx (pc' := 9) rfl ?_
      refine w_ncge rfl rfl rfl (rfl) (rfl) (by omega) (by omega) (fun hb => ?_) (fun hb => ?_)
      · refine w_nx (pc' := 40) rfl ?_
        exact w_fin rfl ⟨rfl, rfl⟩
      · omega
  | succ c ih =>
    intro k s hk hs
    cases s with
    | none =>
      rw [goR_none]
      refine w_nx (pc' := 8) rfl ?_
      refine w_nx (pc' := 9) rfl ?_
      refine w_ncge rfl rfl rfl (rfl) (rfl) (by omega) (by omega) (fun hb => ?_) (fun hb => ?_)
      · omega
      · refine w_nx (pc' := 14) rfl ?_
        refine w_inull (u := none) rfl rfl rfl (fun _ => ?_) (fun _ h => by cases h)
        refine w_nx (pc' := 40) rfl ?_
        exact w_fin rfl ⟨rfl, rfl⟩
    | some j =>
      have hj := hs j rfl
      have hmj := hm.2.2.2 j (by omega)
      have hTj : (gT z (265 + 2 * j)).1 = 6 := by rw [hmj.2.1]
      obtain ⟨t1, t2⟩ := ht.2.2 k (by omega)
      refine w_nx (pc' := 8) rfl ?_
      refine w_nx (pc' := 9) rfl ?_
      refine w_ncge rfl rfl rfl (rfl) (rfl) (by omega) (by omega) (fun hb => ?_) (fun hb => ?_)
      · omega
      · refine w_nx (pc' := 14) rfl ?_
        refine w_inull (u := some (265 + 2 * j)) rfl rfl rfl (fun h => by cases h) (fun _ _ => ?_)
        refine w_nx (pc' := 19) rfl ?_
        refine w_getR rfl rfl (hTj) (congrArg va_rf (hmj.2.2.2.1)) rfl ?_
        refine w_nx (pc' := 23) rfl ?_
        refine w_getR rfl rfl (hT) (congrArg va_rf (hw.2.2.1.2.2.2.2.2.2.2.2.2.2)) rfl ?_
        refine w_nx (pc' := 28) rfl ?_
        refine w_ald rfl (fun _ _ _ _ _ _ => rfl) (ht.1) rfl (rfl) (by omega) (by decide) rfl rfl ?_
        refine w_top (t1) ?_
        refine w_ald rfl (fun _ _ _ _ _ _ => rfl) hmj.2.2.2.2 rfl rfl t2 (by decide) (congrArg va_rf (nxO_R hr t2 hj)) rfl ?_
        have hgo : goR many out tr k (c + 1) (some j) = goR many out tr (k + 1) c (nxO many out j (tr.getD k 0)) := rfl
        rw [hgo]
        have hok : okS many (nxO many out j (tr.getD k 0)) := fun i hi => nxO_lt hr t2 hi
        have ih' := ih (k + 1) (nxO many out j (tr.getD k 0)) (by omega) hok
        cases hn : nxO many out j (tr.getD k 0) with
        | none =>
          rw [hn] at ih'
          rcases hv with rfl | ⟨a, rfl⟩
          · refine w_nx (pc' := 32) rfl ?_
            refine w_iinc rfl rfl (nI_1 _) rfl rfl ?_
            refine w_nx (pc' := 6) rfl ?_
            exact ih'
          · refine w_nx (pc' := 32) rfl ?_
            refine w_iinc rfl rfl (nI_1 _) rfl rfl ?_
            refine w_nx (pc' := 6) rfl ?_
            exact ih'
        | some i =>
          rw [hn] at ih'
          rcases hv with rfl | ⟨a, rfl⟩
          · refine w_nx (pc' := 32) rfl ?_
            refine w_iinc rfl rfl (nI_1 _) rfl rfl ?_
            refine w_nx (pc' := 6) rfl ?_
            exact ih'
          · refine w_nx (pc' := 32) rfl ?_
            refine w_iinc rfl rfl (nI_1 _) rfl rfl ?_
            refine w_nx (pc' := 6) rfl ?_
            exact ih'
theorem x_along {d many b c : Nat} {out : List (Option Nat)} {tr : List Nat} {z : aSt} {s : Option Nat} (hw : twS z) (hm : monS z) (hr : monR z many out) (ht : trS z tr) (he : b + c ≤ tr.length) (hs : okS many s) : aW (d + 1) 29 [.ref 100, va_rf (nxS s), .int (nI b), .int (nI (b + c))] z (fun o z' => z' = z ∧ o = .inl (some (va_rf (nxS (goR many out tr b c s))))) := by
  cases s with
  | none =>
    refine w_of (k := 29) (m := aM_X1_along) rfl rfl ?_
    refine w_nx (pc' := 1) rfl ?_
    refine w_nx (pc' := 3) rfl ?_
    refine w_nx (pc' := 4) rfl ?_
    refine w_nx (pc' := 6) rfl ?_
    exact x_alongL (.inl rfl) hw hm hr ht he c b none rfl hs
  | some j =>
    refine w_of (k := 29) (m := aM_X1_along) rfl rfl ?_
    refine w_nx (pc' := 1) rfl ?_
    refine w_nx (pc' := 3) rfl ?_
    refine w_nx (pc' := 4) rfl ?_
    refine w_nx (pc' := 6) rfl ?_
    exact x_alongL (.inr ⟨_, rfl⟩) hw hm hr ht he c b (some j) rfl hs
/-- the least n, from one on, so that the last n letters fail; t the time -/
def wnd (many : Nat) (out : List (Option Nat)) (tr : List Nat) (t : Nat) : Nat → Nat → Nat
  | 0, n => n
  | f + 1, n => if goR many out tr (t - n) n (frst many) = none then n else wnd many out tr t f (n + 1)
theorem wnd_le {many : Nat} {out : List (Option Nat)} {tr : List Nat} {t : Nat} : ∀ f n, wnd many out tr t f n ≤ n + f
  | 0, n => Nat.le_refl _
  | f + 1, n => by
    unfold wnd
    split
    · omega
    · have := wnd_le (many := many) (out := out) (tr := tr) (t := t) f (n + 1); omega
theorem okS_f (many : Nat) : okS many (frst many) := by
  intro j hj
  unfold frst at hj
  split at hj
  · cases hj
  · have := Option.some.inj hj; omega
/-- the window is sought -/
theorem x_stepW {d many t l : Nat} {out : List (Option Nat)} {tr : List Nat} {z0 : aSt} (hw : twS z0) (hm : monS z0) (hr : monR z0 many out) (ht : trS z0 tr) (h60 : t ≤ 60) (htt : tr.length = t) (h15 : gI z0 100 15 = nI t) (h16 : gR z0 100 16 = none) (h17 : gI z0 100 17 = nI 1) (h18 : gI z0 100 18 = -1) (hf : goR many out tr 0 t (frst many) = none) : ∀ (f n : Nat), f + n = t → 1 ≤ n → wR (aEx (d + 2)) aM_X1_step (fun o z' => o = .inl (some (.int (-1))) ∧ z' = sI z0 100 18 (nI (wnd many out tr t f n))) 111 [some (.ref 100), some (.int (nI l)), some (.int (nI (t - n)))] [] z0 := by
  have hT : (gT z0 100).1 = 0 := by rw [hw.1]
  have hT3 : (gT z0 263).1 = 5 := by rw [hm.1]
  have h40 := hr.2.1
  -- found
  have found : ∀ n, n ≤ t → wR (aEx (d + 2)) aM_X1_step (fun o z' => o = .inl (some (.int (-1))) ∧ z' = sI z0 100 18 (nI n)) 145 [some (.ref 100), some (.int (nI l)), some (.int (nI (t - n)))] [] z0 := by
    intro n hn
    refine w_nx (pc' := 146) rfl ?_
    refine w_nx (pc' := 147) rfl ?_
    refine w_getI rfl rfl (hT) rfl rfl ?_
    refine w_top (h15) ?_
    refine w_nx (pc' := 151) rfl ?_
    refine w_nx (pc' := 152) rfl ?_
    refine w_top ((pk_sub (by omega)).trans (congrArg nI (show t - (t - n) = n by omega))) ?_
    refine w_put rfl rfl (hT) (by omega) rfl rfl rfl ?_
    have hTa : (gT (sI z0 100 18 (nI n)) 100).1 = 0 := hT
    have a17 : gI (sI z0 100 18 (nI n)) 100 17 = nI 1 := (gI_nk (by decide)).trans h17
    have a18 : gI (sI z0 100 18 (nI n)) 100 18 = nI n := gI_same ..
    have a16 : gR (sI z0 100 18 (nI n)) 100 16 = none := h16
    refine w_iinc rfl rfl (rfl) rfl rfl ?_
    refine w_nx (pc' := 111) rfl ?_
    refine w_nx (pc' := 112) rfl ?_
    refine w_getI rfl rfl (hTa) rfl rfl ?_
    refine w_top (a17) ?_
    refine w_ifeq rfl rfl rfl (fun g => absurd g (by decide)) (fun _ => ?_)
    refine w_nx (pc' := 119) rfl ?_
    refine w_getI rfl rfl (hTa) rfl rfl ?_
    refine w_top (a18) ?_
    refine w_nx (pc' := 123) (S' := .int ((-1)) :: _) rfl ?_
    refine w_icne rfl rfl rfl (fun _ => ?_) (fun g => absurd (nI_nm (by omega)) g)
    refine w_nx (pc' := 162) rfl ?_
    refine w_getR rfl rfl (hTa) (congrArg va_rf (a16)) rfl ?_
    obtain ⟨o, z1, e1, q1, q2⟩ := x_numO (d := d + 1) (s := none) (z := sI z0 100 18 (nI n)) (fun j hj => by cases hj)
    subst q2
    rw [q1] at e1
    refine w_cal (pc' := 168) rfl (rfl) (e1) ?_
    exact w_fin rfl ⟨rfl, rfl⟩
  intro f
  induction f with
  | zero =>
    intro n hn h1
    have e : n = t := by omega
    subst e
    show wR _ _ (fun o z' => o = .inl (some (.int (-1))) ∧ z' = sI z0 100 18 (nI n)) _ _ _ _
    refine w_nx (pc' := 112) rfl ?_
    refine w_getI rfl rfl (hT) rfl rfl ?_
    refine w_top (h17) ?_
    refine w_ifeq rfl rfl rfl (fun g => absurd g (by decide)) (fun _ => ?_)
    refine w_nx (pc' := 119) rfl ?_
    refine w_getI rfl rfl (hT) rfl rfl ?_
    refine w_top (h18) ?_
    refine w_nx (pc' := 123) (S' := .int ((-1)) :: _) rfl ?_
    refine w_icne rfl rfl rfl (fun g => absurd rfl g) (fun _ => ?_)
    refine w_nx (pc' := 127) rfl ?_
    refine w_nx (pc' := 128) rfl ?_
    refine w_getR rfl rfl (hT) (congrArg va_rf (hw.2.2.1.2.2.2.2.2.2.2.2.1)) rfl ?_
    obtain ⟨o, z1, e1, q1, q2⟩ := x_first (d := d + 1) (many := many) hm hr.1 h40
    subst q2
    rw [q1] at e1
    have hfr : (if many = 0 then Value.null else Value.ref 265) = va_rf (nxS (frst many)) := by
      unfold frst
      split <;> rfl
    rw [hfr] at e1
    refine w_cal (pc' := 134) rfl (a_cv0 rfl rfl rfl (hT3) rfl rfl) (e1) ?_
    refine w_nx (pc' := 135) rfl ?_
    refine w_nx (pc' := 136) rfl ?_
    refine w_getI rfl rfl (hT) rfl rfl ?_
    refine w_top (h15) ?_
    obtain ⟨o, z2, e2, q3, q4⟩ := x_along (d := d + 1) (b := n - n) (c := n) hw hm hr ht (by omega) (okS_f many)
    subst q4
    rw [q3] at e2
    rw [show n - n + n = n by omega] at e2
    refine w_cal (pc' := 142) rfl (a_cv0 rfl rfl rfl (hT) rfl rfl) (e2) ?_
    rw [Nat.sub_self, hf]
    refine w_inon (u := none) rfl rfl rfl (fun b hb => by cases hb) (fun _ => ?_)
    have := found n (Nat.le_refl _)
    rw [Nat.sub_self] at this
    exact this
  | succ f ih =>
    intro n hn h1
    refine w_nx (pc' := 112) rfl ?_
    refine w_getI rfl rfl (hT) rfl rfl ?_
    refine w_top (h17) ?_
    refine w_ifeq rfl rfl rfl (fun g => absurd g (by decide)) (fun _ => ?_)
    refine w_nx (pc' := 119) rfl ?_
    refine w_getI rfl rfl (hT) rfl rfl ?_
    refine w_top (h18) ?_
    refine w_nx (pc' := 123) (S' := .int ((-1)) :: _) rfl ?_
    refine w_icne rfl rfl rfl (fun g => absurd rfl g) (fun _ => ?_)
    refine w_nx (pc' := 127) rfl ?_
    refine w_nx (pc' := 128) rfl ?_
    refine w_getR rfl rfl (hT) (congrArg va_rf (hw.2.2.1.2.2.2.2.2.2.2.2.1)) rfl ?_
    obtain ⟨o, z1, e1, q1, q2⟩ := x_first (d := d + 1) (many := many) hm hr.1 h40
    subst q2
    rw [q1] at e1
    have hfr : (if many = 0 then Value.null else Value.ref 265) = va_rf (nxS (frst many)) := by
      unfold frst
      split <;> rfl
    rw [hfr] at e1
    refine w_cal (pc' := 134) rfl (a_cv0 rfl rfl rfl (hT3) rfl rfl) (e1) ?_
    refine w_nx (pc' := 135) rfl ?_
    refine w_nx (pc' := 136) rfl ?_
    refine w_getI rfl rfl (hT) rfl rfl ?_
    refine w_top (h15) ?_
    obtain ⟨o, z2, e2, q3, q4⟩ := x_along (d := d + 1) (b := t - n) (c := n) hw hm hr ht (by omega) (okS_f many)
    subst q4
    rw [q3] at e2
    rw [show t - n + n = t by omega] at e2
    refine w_cal (pc' := 142) rfl (a_cv0 rfl rfl rfl (hT) rfl rfl) (e2) ?_
    unfold wnd
    cases hg : goR many out tr (t - n) n (frst many) with
    | none =>
      rw [if_pos rfl]
      refine w_inon (u := none) rfl rfl rfl (fun b hb => by cases hb) (fun _ => ?_)
      exact found n (by omega)
    | some j =>
      rw [if_neg (by intro h; cases h)]
      refine w_inon (u := some (265 + 2 * j)) rfl rfl rfl (fun b hb => ?_) (fun hb => by cases hb)
      have e : nI (t - n) + Int32.ofInt (-1) = nI (t - (n + 1)) := by
        have : nI (t - n - 1 + 1) - 1 = nI (t - n - 1) := nI_pred _
        rw [show t - n - 1 + 1 = t - n by omega] at this
        rw [show t - (n + 1) = t - n - 1 by omega, ← this, Int32.sub_eq_add_neg]
        exact congrArg (nI (t - n) + ·) (show Int32.ofInt (-1) = -1 by decide)
      refine w_iinc rfl rfl (e) rfl rfl ?_
      refine w_nx (pc' := 111) rfl ?_
      exact ih (n + 1) (by omega) (by omega)
theorem x_step0 {d : Nat} {y : Int32} {z : aSt} {tm : Option Nat} {fb : Bool} (hw : twS z) (h15 : gI z 100 15 = oI tm) (hs : sml tm) (h17 : tm ≠ none → gI z 100 17 = bI fb) (h : tm = none ∨ fb = true ∨ tm = some 60) : aW (d + 1) 28 [.ref 100, .int y] z (fun o z' => o = .inr (100 + gZ z) ∧ z' = aNew z 15 0 6) := by
  have hT : (gT z 100).1 = 0 := by rw [hw.1]
  refine w_of (k := 28) (m := aM_X1_step) rfl rfl ?_
  refine w_nx (pc' := 1) rfl ?_
  refine w_getI rfl rfl (hT) rfl rfl ?_
  refine w_top (h15) ?_
  refine w_nx (pc' := 5) (S' := .int ((-1)) :: _) rfl ?_
  cases tm with
  | none =>
    refine w_iceq rfl rfl rfl (fun _ => ?_) (fun g => absurd rfl g)
    exact w_thn rfl ⟨rfl, rfl⟩
  | some t =>
    have h17' := h17 (by intro h; cases h)
    refine w_iceq rfl rfl rfl (fun g => absurd g (nI_nm (hs t rfl))) (fun _ => ?_)
    refine w_nx (pc' := 9) rfl ?_
    refine w_getI rfl rfl (hT) rfl rfl ?_
    refine w_top (h17') ?_
    cases fb with
    | true =>
      refine w_ifne rfl rfl rfl (fun _ => ?_) (fun g => absurd (show ¬ bI true = 0 by decide) g)
      exact w_thn rfl ⟨rfl, rfl⟩
    | false =>
      refine w_ifne rfl rfl rfl (fun g => absurd rfl g) (fun _ => ?_)
      have ht : t = 60 := by
        rcases h with h | h | h
        · cases h
        · cases h
        · exact Option.some.inj h
      subst ht
      refine w_nx (pc' := 16) rfl ?_
      refine w_getI rfl rfl (hT) rfl rfl ?_
      refine w_top (h15) ?_
      refine w_nx (pc' := 21) (S' := .int (nI 60) :: _) rfl ?_
      refine w_icne rfl rfl rfl (fun g => absurd rfl g) (fun _ => ?_)
      exact w_thn rfl ⟨rfl, rfl⟩
theorem i2b_l : ∀ l, l < 8 → vp_nar .byte (nI l) = nI l := by decide
theorem x_step {d many t s : Nat} {y : Int32} {out : List (Option Nat)} {tr : List Nat} {z : aSt} (hw : twS z) (hm : monS z) (hr : monR z many out) (ht : trS z tr) (h60 : t < 60) (htt : tr.length = t) (h15 : gI z 100 15 = nI t) (h16 : gR z 100 16 = some (265 + 2 * s)) (hs : s < many) (h17 : gI z 100 17 = nI 0) (hst : goR many out tr 0 t (frst many) = some s) : aW (d + 3) 28 [.ref 100, .int y] z (fun o z' => (¬ inR y 8 ∧ o = .inr (100 + gZ z) ∧ z' = aNew z 13 0 6) ∨ ∃ l, l < 8 ∧ y = nI l ∧ o = .inl (some (.int (oI (nxO many out s l)))) ∧ rnR z z' ∧ trS z' (tr ++ [l]) ∧ gI z' 100 15 = nI (t + 1) ∧ gR z' 100 16 = nxS (nxO many out s l) ∧ gI z' 100 17 = bI (nxO many out s l).isNone ∧ gI z' 100 18 = oI (if nxO many out s l = none then some (wnd many out (tr ++ [l]) (t + 1) t 1) else none)) := by
  have hT : (gT z 100).1 = 0 := by rw [hw.1]
  have h40 := hr.2.1
  refine w_of (k := 28) (m := aM_X1_step) rfl rfl ?_
  refine w_nx (pc' := 1) rfl ?_
  refine w_getI rfl rfl (hT) rfl rfl ?_
  refine w_top (h15) ?_
  refine w_nx (pc' := 5) (S' := .int ((-1)) :: _) rfl ?_
  refine w_iceq rfl rfl rfl (fun g => absurd g (nI_nm (by omega))) (fun _ => ?_)
  refine w_nx (pc' := 9) rfl ?_
  refine w_getI rfl rfl (hT) rfl rfl ?_
  refine w_top (h17) ?_
  refine w_ifne rfl rfl rfl (fun g => absurd rfl g) (fun _ => ?_)
  refine w_nx (pc' := 16) rfl ?_
  refine w_getI rfl rfl (hT) rfl rfl ?_
  refine w_top (h15) ?_
  refine w_nx (pc' := 21) (S' := .int (nI 60) :: _) rfl ?_
  refine w_ncne rfl rfl rfl rfl rfl (by omega) (by decide) (fun _ => ?_) (fun g => absurd g (by omega))
  refine w_nx (pc' := 33) rfl ?_
  refine w_nx (pc' := 35) (S' := .int (nI 8) :: _) rfl ?_
  obtain ⟨o, z1, e1, q1, ⟨q2, q3⟩ | ⟨q2, q3⟩⟩ := x_within (d := d + 1) (n := 8) (x := y) (z := z) (by decide)
  · subst q3
    rw [q1] at e1
    refine w_cal (pc' := 38) rfl (rfl) (e1) ?_
    refine w_ifne rfl rfl rfl (fun _ => ?_) (fun g => absurd (show ¬ nI 1 = 0 by decide) g)
    obtain ⟨l, l1, l2⟩ := q2
    subst l2
    refine w_nx (pc' := 50) rfl ?_
    refine w_getR rfl rfl (hT) (congrArg va_rf (hw.2.2.1.2.2.2.2.2.2.2.2.2.2)) rfl ?_
    refine w_nx (pc' := 54) rfl ?_
    refine w_getI rfl rfl (hT) rfl rfl ?_
    refine w_top (h15) ?_
    refine w_nx (pc' := 58) rfl ?_
    refine w_nx (pc' := 59) (S' := .int (vp_nar .byte (nI l)) :: _) rfl ?_
    refine w_top (i2b_l l l1) ?_
    refine w_bast rfl ht.1 (by decide) rfl h60 (by decide) rfl ?_
    rw [i2b_l l l1]
    have hTa : (gT (sI z 350 t (nI l)) 100).1 = 0 := hT
    have a15 : gI (sI z 350 t (nI l)) 100 15 = nI t := (gI_ne (by decide)).trans h15
    refine w_nx (pc' := 61) rfl ?_
    refine w_nx (pc' := 62) rfl ?_
    refine w_getI rfl rfl (hTa) rfl rfl ?_
    refine w_top (a15) ?_
    refine w_nx (pc' := 66) (S' := .int (nI 1) :: _) rfl ?_
    refine w_nx (pc' := 67) rfl ?_
    refine w_top (nI_add _ _) ?_
    refine w_put rfl rfl (hTa) (by omega) rfl rfl rfl ?_
    have hTb : (gT (sI (sI z 350 t (nI l)) 100 15 (nI (t + 1))) 100).1 = 0 := hT
    have b16 : gR (sI (sI z 350 t (nI l)) 100 15 (nI (t + 1))) 100 16 = some (265 + 2 * s) := h16
    have hms := hm.2.2.2 s (by omega)
    have hTs : (gT (sI (sI z 350 t (nI l)) 100 15 (nI (t + 1))) (265 + 2 * s)).1 = 6 := by show (gT z _).1 = 6; rw [hms.2.1]
    have hTn : gT (sI (sI z 350 t (nI l)) 100 15 (nI (t + 1))) (266 + 2 * s) = (47, 8) := hms.2.2.2.2
    have rn : gR (sI (sI z 350 t (nI l)) 100 15 (nI (t + 1))) (265 + 2 * s) 1 = some (266 + 2 * s) := hms.2.2.2.1
    refine w_nx (pc' := 71) rfl ?_
    refine w_nx (pc' := 72) rfl ?_
    refine w_getR rfl rfl (hTb) (congrArg va_rf (b16)) rfl ?_
    refine w_getR rfl rfl (hTs) (congrArg va_rf (rn)) rfl ?_
    refine w_nx (pc' := 79) rfl ?_
    have rx : gR (sI (sI z 350 t (nI l)) 100 15 (nI (t + 1))) (266 + 2 * s) l = nxS (nxO many out s l) := nxO_R hr l1 hs
    refine w_ald rfl (fun _ _ _ _ _ _ => rfl) hTn rfl rfl l1 (by decide) (congrArg va_rf rx) rfl ?_
    have htl : ∀ tr', tr' = tr ++ [l] → tr'.length = t + 1 := fun tr' e => by rw [e, List.length_append, htt]; rfl
    have hgd : ∀ i, i < t → (tr ++ [l]).getD i 0 = tr.getD i 0 := fun i hi => by rw [gd_app1, if_pos (by omega)]
    have hgl : (tr ++ [l]).getD t 0 = l := by rw [gd_app1, if_neg (by omega), if_pos htt.symm]
    have hgo : goR many out (tr ++ [l]) 0 (t + 1) (frst many) = nxO many out s l := by
      rw [goR_snoc, Nat.zero_add, hgl, goR_ext t 0 _ (fun i _ hi => hgd i (by omega)), hst]
      rfl
    -- facts on any memory that differs in 100 only
    have common : ∀ z5 : aSt, (∀ b, b ≠ 100 → ∀ k, gI z5 b k = gI (sI z 350 t (nI l)) b k) → (∀ b, b ≠ 100 → ∀ k, gR z5 b k = gR z b k) → (∀ b, gT z5 b = gT z b) → gZ z5 = gZ z → (∀ k, k ≠ 16 → gR z5 100 k = gR z 100 k) → twS z5 ∧ monS z5 ∧ monR z5 many out ∧ trS z5 (tr ++ [l]) := by
      intro z5 hI hR hTT hZ h100
      refine ⟨twS_of hw (Nat.le_of_eq hZ.symm) (fun b _ => hTT b) (fun k h1 _ => h100 k h1) (fun k => hR _ (by decide) k), ⟨(hTT _).trans hm.1, (hR _ (by decide) _).trans hm.2.1, (hTT _).trans hm.2.2.1, fun i hi => ?_⟩, ⟨?_, hr.2.1, hr.2.2.1, fun i hi => ?_, hr.2.2.2.2⟩, (hTT _).trans ht.1, by rw [htl _ rfl]; omega, fun i hi => ?_⟩
      · obtain ⟨a1, a2, a3, a4, a5⟩ := hm.2.2.2 i hi
        exact ⟨(hR _ (by decide) _).trans a1, (hTT _).trans a2, ((hI _ (by omega) _).trans (gI_ne (by omega))).trans a3, (hR _ (by omega) _).trans a4, (hTT _).trans a5⟩
      · exact ((hI _ (by decide) _).trans (gI_ne (by decide))).trans hr.1
      · have := hr.2.2.1
        exact (hR _ (by omega) _).trans (hr.2.2.2.1 i hi)
      · rw [htl _ rfl] at hi
        rw [hI _ (by decide)]
        by_cases ci : i = t
        · subst ci
          rw [gI_same, hgl]
          exact ⟨rfl, l1⟩
        · rw [gI_nk ci, hgd i (by omega)]
          exact ht.2.2 i (by omega)
    cases hn : nxO many out s l with
    | none =>
      refine w_put rfl rfl hTb (by decide) rfl rfl rfl ?_
      have hTc : (gT (sR (sI (sI z 350 t (nI l)) 100 15 (nI (t + 1))) 100 16 none) 100).1 = 0 := hT
      have c16 : gR (sR (sI (sI z 350 t (nI l)) 100 15 (nI (t + 1))) 100 16 none) 100 16 = none := gR_same ..
      show wR _ _ _ 83 _ _ (sR (sI (sI z 350 t (nI l)) 100 15 (nI (t + 1))) 100 16 none)
      refine w_nx (pc' := 84) rfl ?_
      refine w_nx (pc' := 85) rfl ?_
      refine w_getR rfl rfl (hTc) (congrArg va_rf (c16)) rfl ?_
      refine w_inon (u := none) rfl rfl rfl (fun b hb => by cases hb) (fun _ => ?_)
      refine w_nx (pc' := 92) (S' := .int (nI 1) :: _) rfl ?_
      refine w_nx (pc' := 96) rfl ?_
      refine w_put rfl rfl (hTc) (by omega) rfl (rfl) rfl ?_
      have hTd : (gT (sI (sR (sI (sI z 350 t (nI l)) 100 15 (nI (t + 1))) 100 16 none) 100 17 (nI 1)) 100).1 = 0 := hT
      show wR _ _ _ 99 _ _ (sI (sR (sI (sI z 350 t (nI l)) 100 15 (nI (t + 1))) 100 16 none) 100 17 (nI 1))
      refine w_nx (pc' := 100) rfl ?_
      refine w_nx (pc' := 101) (S' := .int ((-1)) :: _) rfl ?_
      refine w_put rfl rfl (hTd) (by omega) rfl rfl rfl ?_
      have I5 : ∀ b, b ≠ 100 → ∀ k, gI (sI (sI (sR (sI (sI z 350 t (nI l)) 100 15 (nI (t + 1))) 100 16 none) 100 17 (nI 1)) 100 18 (-1)) b k = gI (sI z 350 t (nI l)) b k := fun b hb k => (gI_ne hb).trans ((gI_ne hb).trans (show gI (sI (sI z 350 t (nI l)) 100 15 (nI (t + 1))) b k = _ from gI_ne hb))
      have R5 : ∀ b, b ≠ 100 → ∀ k, gR (sI (sI (sR (sI (sI z 350 t (nI l)) 100 15 (nI (t + 1))) 100 16 none) 100 17 (nI 1)) 100 18 (-1)) b k = gR z b k := fun b hb k => gR_ne hb
      have R100 : ∀ k, k ≠ 16 → gR (sI (sI (sR (sI (sI z 350 t (nI l)) 100 15 (nI (t + 1))) 100 16 none) 100 17 (nI 1)) 100 18 (-1)) 100 k = gR z 100 k := fun k hk => gR_nk hk
      have I100 : ∀ k, k ≠ 15 → k ≠ 17 → k ≠ 18 → gI (sI (sI (sR (sI (sI z 350 t (nI l)) 100 15 (nI (t + 1))) 100 16 none) 100 17 (nI 1)) 100 18 (-1)) 100 k = gI z 100 k := fun k h1 h2 h3 => (gI_nk h3).trans ((gI_nk h2).trans (show gI (sI (sI z 350 t (nI l)) 100 15 (nI (t + 1))) 100 k = _ from (gI_nk h1).trans (gI_ne (by decide))))
      have d15 : gI (sI (sI (sR (sI (sI z 350 t (nI l)) 100 15 (nI (t + 1))) 100 16 none) 100 17 (nI 1)) 100 18 (-1)) 100 15 = nI (t + 1) := (gI_nk (by decide)).trans ((gI_nk (by decide)).trans (show gI (sI (sI z 350 t (nI l)) 100 15 (nI (t + 1))) 100 15 = _ from gI_same ..))
      have d16 : gR (sI (sI (sR (sI (sI z 350 t (nI l)) 100 15 (nI (t + 1))) 100 16 none) 100 17 (nI 1)) 100 18 (-1)) 100 16 = none := c16
      have d17 : gI (sI (sI (sR (sI (sI z 350 t (nI l)) 100 15 (nI (t + 1))) 100 16 none) 100 17 (nI 1)) 100 18 (-1)) 100 17 = nI 1 := (gI_nk (by decide)).trans (gI_same ..)
      have d18 : gI (sI (sI (sR (sI (sI z 350 t (nI l)) 100 15 (nI (t + 1))) 100 16 none) 100 17 (nI 1)) 100 18 (-1)) 100 18 = -1 := gI_same ..
      have fz : fr (fun b => b = 100 ∨ b = 350) z (sI (sI (sR (sI (sI z 350 t (nI l)) 100 15 (nI (t + 1))) 100 16 none) 100 17 (nI 1)) 100 18 (-1)) := fr_trans (fr_trans (fr_trans (fr_trans (fr_sI fun _ => .inr rfl) (fr_sI fun _ => .inl rfl)) (fr_sR fun _ => .inl rfl)) (fr_sI fun _ => .inl rfl)) (fr_sI fun _ => .inl rfl)
      obtain ⟨w5, m5, r5, t5⟩ := common _ I5 R5 (fun _ => rfl) rfl R100
      have Z5 : gZ (sI (sI (sR (sI (sI z 350 t (nI l)) 100 15 (nI (t + 1))) 100 16 none) 100 17 (nI 1)) 100 18 (-1)) = gZ z := rfl
      have S5 : gS (sI (sI (sR (sI (sI z 350 t (nI l)) 100 15 (nI (t + 1))) 100 16 none) 100 17 (nI 1)) 100 18 (-1)) = gS z := rfl
      generalize sI (sI (sR (sI (sI z 350 t (nI l)) 100 15 (nI (t + 1))) 100 16 none) 100 17 (nI 1)) 100 18 (-1) = z5 at I5 R5 R100 I100 d15 d16 d17 d18 fz w5 m5 r5 t5 Z5 S5 ⊢
      have hT5 : (gT z5 100).1 = 0 := by rw [w5.1]
      refine w_nx (pc' := 105) rfl ?_
      refine w_getI rfl rfl (hT5) rfl rfl ?_
      refine w_top (d15) ?_
      refine w_nx (pc' := 109) (S' := .int (nI 1) :: _) rfl ?_
      refine w_nx (pc' := 110) rfl ?_
      refine w_top ((pk_sub (by omega)).trans (congrArg nI (show t + 1 - 1 = t + 1 - 1 from rfl))) ?_
      refine w_nx (pc' := 111) rfl ?_
      refine w_imp ?_ (x_stepW (d := d) (t := t + 1) (l := l) w5 m5 r5 t5 (by omega) (htl _ rfl) d15 d16 d17 d18 (hgo.trans hn) t 1 rfl (Nat.le_refl _))
      rintro o z' ⟨rfl, rfl⟩
      refine .inr ⟨l, l1, rfl, by rw [hn]; rfl, ⟨fr_trans fz (fr_sI fun _ => .inl rfl), Z5, S5, R100, fun k h1 h2 h3 => (gI_nk h3).trans (I100 k h1 h2 h3)⟩, ⟨t5.1, t5.2.1, fun i hi => ⟨(gI_ne (by decide)).trans (t5.2.2 i hi).1, (t5.2.2 i hi).2⟩⟩, (gI_nk (by decide)).trans d15, by rw [hn]; exact d16, by rw [hn]; exact (gI_nk (by decide)).trans d17, ?_⟩
      rw [if_pos hn]
      exact gI_same ..
    | some j =>
      refine w_put rfl rfl hTb (by decide) rfl rfl rfl ?_
      have hTc : (gT (sR (sI (sI z 350 t (nI l)) 100 15 (nI (t + 1))) 100 16 (some (265 + 2 * j))) 100).1 = 0 := hT
      have c16 : gR (sR (sI (sI z 350 t (nI l)) 100 15 (nI (t + 1))) 100 16 (some (265 + 2 * j))) 100 16 = some (265 + 2 * j) := gR_same ..
      show wR _ _ _ 83 _ _ (sR (sI (sI z 350 t (nI l)) 100 15 (nI (t + 1))) 100 16 (some (265 + 2 * j)))
      refine w_nx (pc' := 84) rfl ?_
      refine w_nx (pc' := 85) rfl ?_
      refine w_getR rfl rfl (hTc) (congrArg va_rf (c16)) rfl ?_
      refine w_inon (u := some (265 + 2 * j)) rfl rfl rfl (fun b hb => ?_) (fun hb => by cases hb)
      refine w_nx (pc' := 96) (S' := .int (nI 0) :: _) rfl ?_
      refine w_put rfl rfl (hTc) (by omega) rfl (rfl) rfl ?_
      have hTd : (gT (sI (sR (sI (sI z 350 t (nI l)) 100 15 (nI (t + 1))) 100 16 (some (265 + 2 * j))) 100 17 (nI 0)) 100).1 = 0 := hT
      show wR _ _ _ 99 _ _ (sI (sR (sI (sI z 350 t (nI l)) 100 15 (nI (t + 1))) 100 16 (some (265 + 2 * j))) 100 17 (nI 0))
      refine w_nx (pc' := 100) rfl ?_
      refine w_nx (pc' := 101) (S' := .int ((-1)) :: _) rfl ?_
      refine w_put rfl rfl (hTd) (by omega) rfl rfl rfl ?_
      have I5 : ∀ b, b ≠ 100 → ∀ k, gI (sI (sI (sR (sI (sI z 350 t (nI l)) 100 15 (nI (t + 1))) 100 16 (some (265 + 2 * j))) 100 17 (nI 0)) 100 18 (-1)) b k = gI (sI z 350 t (nI l)) b k := fun b hb k => (gI_ne hb).trans ((gI_ne hb).trans (show gI (sI (sI z 350 t (nI l)) 100 15 (nI (t + 1))) b k = _ from gI_ne hb))
      have R5 : ∀ b, b ≠ 100 → ∀ k, gR (sI (sI (sR (sI (sI z 350 t (nI l)) 100 15 (nI (t + 1))) 100 16 (some (265 + 2 * j))) 100 17 (nI 0)) 100 18 (-1)) b k = gR z b k := fun b hb k => gR_ne hb
      have R100 : ∀ k, k ≠ 16 → gR (sI (sI (sR (sI (sI z 350 t (nI l)) 100 15 (nI (t + 1))) 100 16 (some (265 + 2 * j))) 100 17 (nI 0)) 100 18 (-1)) 100 k = gR z 100 k := fun k hk => gR_nk hk
      have I100 : ∀ k, k ≠ 15 → k ≠ 17 → k ≠ 18 → gI (sI (sI (sR (sI (sI z 350 t (nI l)) 100 15 (nI (t + 1))) 100 16 (some (265 + 2 * j))) 100 17 (nI 0)) 100 18 (-1)) 100 k = gI z 100 k := fun k h1 h2 h3 => (gI_nk h3).trans ((gI_nk h2).trans (show gI (sI (sI z 350 t (nI l)) 100 15 (nI (t + 1))) 100 k = _ from (gI_nk h1).trans (gI_ne (by decide))))
      have d15 : gI (sI (sI (sR (sI (sI z 350 t (nI l)) 100 15 (nI (t + 1))) 100 16 (some (265 + 2 * j))) 100 17 (nI 0)) 100 18 (-1)) 100 15 = nI (t + 1) := (gI_nk (by decide)).trans ((gI_nk (by decide)).trans (show gI (sI (sI z 350 t (nI l)) 100 15 (nI (t + 1))) 100 15 = _ from gI_same ..))
      have d16 : gR (sI (sI (sR (sI (sI z 350 t (nI l)) 100 15 (nI (t + 1))) 100 16 (some (265 + 2 * j))) 100 17 (nI 0)) 100 18 (-1)) 100 16 = some (265 + 2 * j) := c16
      have d17 : gI (sI (sI (sR (sI (sI z 350 t (nI l)) 100 15 (nI (t + 1))) 100 16 (some (265 + 2 * j))) 100 17 (nI 0)) 100 18 (-1)) 100 17 = nI 0 := (gI_nk (by decide)).trans (gI_same ..)
      have d18 : gI (sI (sI (sR (sI (sI z 350 t (nI l)) 100 15 (nI (t + 1))) 100 16 (some (265 + 2 * j))) 100 17 (nI 0)) 100 18 (-1)) 100 18 = -1 := gI_same ..
      have fz : fr (fun b => b = 100 ∨ b = 350) z (sI (sI (sR (sI (sI z 350 t (nI l)) 100 15 (nI (t + 1))) 100 16 (some (265 + 2 * j))) 100 17 (nI 0)) 100 18 (-1)) := fr_trans (fr_trans (fr_trans (fr_trans (fr_sI fun _ => .inr rfl) (fr_sI fun _ => .inl rfl)) (fr_sR fun _ => .inl rfl)) (fr_sI fun _ => .inl rfl)) (fr_sI fun _ => .inl rfl)
      obtain ⟨w5, m5, r5, t5⟩ := common _ I5 R5 (fun _ => rfl) rfl R100
      have Z5 : gZ (sI (sI (sR (sI (sI z 350 t (nI l)) 100 15 (nI (t + 1))) 100 16 (some (265 + 2 * j))) 100 17 (nI 0)) 100 18 (-1)) = gZ z := rfl
      have S5 : gS (sI (sI (sR (sI (sI z 350 t (nI l)) 100 15 (nI (t + 1))) 100 16 (some (265 + 2 * j))) 100 17 (nI 0)) 100 18 (-1)) = gS z := rfl
      generalize sI (sI (sR (sI (sI z 350 t (nI l)) 100 15 (nI (t + 1))) 100 16 (some (265 + 2 * j))) 100 17 (nI 0)) 100 18 (-1) = z5 at I5 R5 R100 I100 d15 d16 d17 d18 fz w5 m5 r5 t5 Z5 S5 ⊢
      have hT5 : (gT z5 100).1 = 0 := by rw [w5.1]
      have hTj : (gT z5 (265 + 2 * j)).1 = 6 := by
        have := nxO_lt hr l1 hn
        rw [(m5.2.2.2 j (by omega)).2.1]
      refine w_nx (pc' := 105) rfl ?_
      refine w_getI rfl rfl (hT5) rfl rfl ?_
      refine w_top (d15) ?_
      refine w_nx (pc' := 109) (S' := .int (nI 1) :: _) rfl ?_
      refine w_nx (pc' := 110) rfl ?_
      refine w_top (pk_sub (by omega)) ?_
      refine w_nx (pc' := 111) rfl ?_
      refine w_nx (pc' := 112) rfl ?_
      refine w_getI rfl rfl (hT5) rfl rfl ?_
      refine w_top (d17) ?_
      refine w_ifeq rfl rfl rfl (fun _ => ?_) (fun g => absurd rfl g)
      refine w_nx (pc' := 162) rfl ?_
      refine w_getR rfl rfl (hT5) (congrArg va_rf (d16)) rfl ?_
      obtain ⟨o, z6, e6, q1, q2⟩ := x_numO (d := d + 1) (s := some j) (z := z5) (fun i hi => by
        rw [← Option.some.inj hi]
        have := nxO_lt hr l1 hn
        exact ⟨(m5.2.2.2 j (by omega)).2.1, (m5.2.2.2 j (by omega)).2.2.1⟩)
      subst q2
      rw [q1] at e6
      refine w_cal (pc' := 168) rfl (rfl) (e6) ?_
      refine w_fin rfl (.inr ⟨l, l1, rfl, by rw [hn], ⟨fz, Z5, S5, R100, I100⟩, t5, d15, by rw [hn]; exact d16, by rw [hn]; exact d17, ?_⟩)
      rw [if_neg (by rw [hn]; intro h; cases h)]
      exact d18
  · subst q3
    rw [q1] at e1
    refine w_cal (pc' := 38) rfl (rfl) (e1) ?_
    refine w_ifne rfl rfl rfl (fun g => absurd rfl g) (fun _ => ?_)
    exact w_thn rfl (.inl ⟨q2, rfl, rfl⟩)
