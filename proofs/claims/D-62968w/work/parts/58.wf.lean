/-! what walk leaves is well made -/
set_option maxRecDepth 100000
theorem bm_lt : ∀ T : Tr, bm T < 256
  | .leaf => by decide
  | .inner k a b l r => by
    have h1 := bm_lt l
    have h2 := bm_lt r
    unfold bm
    split
    · split
      · decide
      · split
        · decide
        · split
          · decide
          · split <;> decide
    · exact Nat.xor_lt_two_pow (n := 8) (by decide) h1
    · exact Nat.lt_of_le_of_lt Nat.and_le_left h1
    · exact Nat.or_lt_two_pow (n := 8) h1 h2
theorem sqCo_ms {u : SQ} (h : ∀ x ∈ sms u, x < 256) (l : Nat) : ∀ k, ∀ x ∈ (sqCo u l k).2.2.2, x < 256
  | 0 => h
  | k + 1 => fun x hx => (List.mem_append.mp (show x ∈ (sqCo u l k).2.2.2 ++ sms u from hx)).elim (sqCo_ms h l k x) (h x)
theorem sq_ms : ∀ (T : Tr), ∀ x ∈ sms (sq T), x < 256
  | .leaf => fun x hx => by cases hx
  | .inner k a b l r => by
    have h1 := sq_ms l
    have h2 := sq_ms r
    show ∀ x ∈ sms (sqK k a b (bm l) (sq l) (sq r)), x < 256
    unfold sqK
    split
    · intro x hx
      rw [List.mem_singleton.mp (show x ∈ [bm l] from hx)]
      exact bm_lt l
    · exact fun x hx => (List.mem_append.mp (show x ∈ sms (sq l) ++ sms (sq r) from hx)).elim (h1 x) (h2 x)
    · exact fun x hx => (List.mem_append.mp (show x ∈ sms (sq l) ++ sms (sq r) from hx)).elim (h1 x) (h2 x)
    · exact sqCo_ms h1 a _
    · exact h1
    · exact h1
theorem vR_of {z : aSt} {b k v : Nat} (h : gR z b k = some v) : vR z b k = v := by unfold vR; rw [h]; rfl
theorem repP_ok {z : aSt} : ∀ {T : Tr} {p : Nat}, repP z T p → okQ z p
  | .leaf, _, h => False.elim h
  | .inner .., _, h => h.1
theorem okQ_P {z : aSt} {p : Nat} (h : okQ z p) : okP z p := ⟨h.1, h.2.1⟩
theorem own_due {z : aSt} : ∀ {T : Tr} {p k : Nat}, repP z T p → numC z T p true k → gI z p 6 = nI k ∧ gR z 105 k = some p ∧ 1 ≤ wid T true
  | .leaf, _, _, h, _ => False.elim h
  | .inner n a b l r, p, k, _, hn => by
    have := hn.1 rfl
    exact ⟨this.1, this.2, by unfold wid; show 1 ≤ 1 + _; omega⟩
/-- a place of a sequence -/
theorem wf_plc {z : aSt} {l : Tr} {p k n i : Nat} {W : Nat → Prop} (hp : okQ z p) (h0 : gR z p 0 = some n) (h1 : n = 3 ∨ n = 4) (h6 : gR z p 2 = some (vR z p 2)) (hr : okQ z (vR z p 2)) (h4 : n = 4 → vI z (vR z p 2) 6 < 9) (h3 : W (vR z p 2)) (g : plcAt z k (sq l) p) (hk : k + (sfo (sq l)).length ≤ 9) (i1 : k ≤ i) (i2 : i < k + (sfo (sq l)).length) : wfK z W i := by
  have w := sqW_sq l
  have e := g (i - k) (by omega)
  rw [show k + (i - k) = i by omega] at e
  unfold ent at e
  simp only [Prod.mk.injEq] at e
  obtain ⟨e1, e2, e3, e4, e5⟩ := e
  have hi : i - k < (sfo (sq l)).length := by omega
  have m1 := sq_ms l _ (get_mem (show i - k < (sms (sq l)).length by rw [w.2.2.2]; exact hi))
  have m2 := m512 (w.2.2.1 _ (get_mem hi)) hk
  have v1 := vI_of e1 (by omega)
  have v2 := vI_of e2 (by omega)
  have v4 : vR z 109 i = p := vR_of e4
  have v0 : vR z p 0 = n := vR_of h0
  have v3 : vI z 108 i ≤ 1 := by
    unfold vI
    rw [e3]
    split <;> decide
  refine ⟨by omega, by omega, v3, fun _ => ?_⟩
  rw [v4, v0]
  exact ⟨e4, okQ_P hp, h0, h1, h6, okQ_P hr, h4, fun _ => h3⟩
theorem wf_num {z : aSt} : ∀ (T : Tr) (p : Nat) (due : Bool) (k : Nat), repP z T p → numC z T p due k → k + wid T due ≤ 9 → wfP z (ht T) p
  | .leaf, _, _, _, h, _, _ => False.elim h
  | .inner n a b l r, p, due, k, ⟨h2, h3, h⟩, hn, hk => by
    have v0 : vR z p 0 = n := vR_of h3
    have hd : (owns due n = 1 → gI z p 6 = nI k ∧ gR z 105 k = some p) := hn.1
    show wfQ z (wfP z (ht l + ht r)) p
    refine ⟨okQ_P h2, by rw [v0]; exact h3, ?_⟩
    rw [v0]
    have own9 : owns due n = 1 → vI z p 6 < 9 := fun g => by
      have : owns due n ≤ wid (.inner n a b l r) due := by unfold wid; omega
      rw [vI_of (hd g).1 (by omega)]
      omega
    rcases h with ⟨h1, h4⟩ | ⟨h1, h4, h5⟩ | ⟨h1, h4, h5, h6, h7⟩ | ⟨h1, h4, h5, h6, h7⟩
    · have := bm_lt l
      exact .inl ⟨h1, by rw [vI_of h4 (by omega)]; exact this⟩
    · rw [wid_u h1] at hk
      have hn' := ((num_u h1).mp hn).2
      rcases h1 with h1 | h1
      · refine .inr (.inr (.inl ⟨h1, h4, wfP_le (wf_num l _ _ _ h5 hn' (by omega)) (by omega), own9 ?_⟩))
        unfold owns
        rw [if_pos (.inr (.inl h1))]
      · subst h1
        obtain ⟨q1, q2, q3⟩ := own_due h5 hn'
        refine .inr (.inl ⟨rfl, h4, okQ_P (repP_ok h5), ?_⟩)
        have hk' : k + (owns due 2 + wid l true) ≤ 9 := hk
        rw [vI_of q1 (by omega)]
        omega
    · rw [wid_s h1] at hk
      obtain ⟨_, g2, g3, g4⟩ := (num_s h1).mp hn
      have w := sqW_sq l
      have f9 := m512 w.1 (show k + owns due n + (sfo (sq l)).length ≤ 9 by omega)
      refine .inr (.inr (.inr (.inl ⟨h1, by rw [vI_of g2 (by omega)]; exact f9, fun i _ hb => ?_⟩)))
      rw [vI_of g2 (by omega), tb_mul, Bool.and_eq_true, decide_eq_true_eq] at hb
      have hi2 : i - (k + owns due n) < (sfo (sq l)).length := by
        apply Nat.lt_of_not_le
        intro g
        rw [Nat.testBit_lt_two_pow (lt_up w.1 g)] at hb
        cases hb.2
      refine wf_plc h2 h3 h1 h6 (repP_ok h7) (fun h4' => ?_) (wfP_le (wf_num r _ _ _ h7 g4 (by omega)) (by omega)) g3 (by omega) hb.1 (by omega)
      subst h4'
      obtain ⟨q1, q2, q3⟩ := own_due h7 g4
      have hk' : k + (owns due 4 + ((sfo (sq l)).length + wid r true)) ≤ 9 := hk
      rw [vI_of q1 (by omega)]
      omega
    · rw [wid_b h1] at hk
      obtain ⟨_, g3, g4⟩ := (num_b h1).mp hn
      have wl := wfP_le (wf_num l _ _ _ h5 g3 (by omega)) (show ht l ≤ ht l + ht r by omega)
      have wr := wfP_le (wf_num r _ _ _ h7 g4 (by omega)) (show ht r ≤ ht l + ht r by omega)
      by_cases c : n = 7
      · refine .inr (.inr (.inr (.inr (.inl ⟨c, h4, wl, h6, wr, own9 ?_⟩))))
        unfold owns
        rw [if_pos (.inr (.inr c))]
      · exact .inr (.inr (.inr (.inr (.inr ⟨by omega, h4, wl, h6, wr⟩))))
