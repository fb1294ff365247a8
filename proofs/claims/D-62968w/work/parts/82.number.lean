/-! TraceWarden.number -/
set_option maxRecDepth 100000
/-- the Monitor's cells that never change -/
def monS (z : aSt) : Prop := gT z 263 = (5, 0) ∧ gR z 263 0 = some 264 ∧ gT z 264 = (47, 40) ∧ ∀ i, i < 40 → gR z 264 i = some (265 + 2 * i) ∧ gT z (265 + 2 * i) = (6, 0) ∧ gI z (265 + 2 * i) 0 = nI i ∧ gR z (265 + 2 * i) 1 = some (266 + 2 * i) ∧ gT z (266 + 2 * i) = (47, 8)
def nmF (b : Nat) : Prop := b = 259 ∨ b = 260 ∨ b = 263 ∨ (266 ≤ b ∧ b < 346 ∧ b % 2 = 0)
def nmR (z z1 : aSt) : Prop := fr nmF z z1 ∧ gZ z1 = gZ z ∧ gS z1 = gS z ∧ (∀ k, gR z1 263 k = gR z 263 k) ∧ ∀ k, k ≠ 1 → gI z1 263 k = gI z 263 k
theorem nmR_refl (z : aSt) : nmR z z := ⟨fr_refl z, rfl, rfl, fun _ => rfl, fun _ _ => rfl⟩
theorem nmR_trans {z z1 z2 : aSt} (h : nmR z z1) (g : nmR z1 z2) : nmR z z2 := ⟨fr_trans h.1 g.1, g.2.1.trans h.2.1, g.2.2.1.trans h.2.2.1, fun k => (g.2.2.2.1 k).trans (h.2.2.2.1 k), fun k hk => (g.2.2.2.2 k hk).trans (h.2.2.2.2 k hk)⟩
theorem nmR_sI {z : aSt} {a k : Nat} {v : Int32} (h : a = 259 ∨ a = 260 ∨ (a = 263 ∧ k = 1)) : nmR z (sI z a k v) := by
  refine ⟨fr_sI fun _ => ?_, rfl, rfl, fun _ => rfl, fun j hj => ?_⟩
  · unfold nmF; omega
  · rcases h with h | h | h
    · exact gI_ne (by omega)
    · exact gI_ne (by omega)
    · exact gI_nk (by omega)
theorem nmR_sR {z : aSt} {a k : Nat} {v : Option Nat} (h : 266 ≤ a ∧ a < 346 ∧ a % 2 = 0) : nmR z (sR z a k v) := ⟨fr_sR fun _ => .inr (.inr (.inr h)), rfl, rfl, fun _ => gR_ne (by omega), fun _ _ => rfl⟩
theorem twS_nm {z z1 : aSt} (h : twS z) (f : nmR z z1) : twS z1 := twS_of h f.1.1 (fun b hb => f.1.2.1 b (twS_lv h hb)) (fun k _ _ => (f.1.2.2 100 (twS_lv h (by decide)) (by unfold nmF; omega) k).2.2) (fun k => (f.1.2.2 256 (twS_lv h (by decide)) (by unfold nmF; omega) k).2.2)
theorem monS_nm {z z1 : aSt} (h : monS z) (hw : twS z) (f : nmR z z1) : monS z1 := by
  have t : ∀ b, b < 468 → gT z1 b = gT z b := fun b hb => f.1.2.1 b (twS_lv hw hb)
  refine ⟨(t _ (by decide)).trans h.1, (f.2.2.2.1 0).trans h.2.1, (t _ (by decide)).trans h.2.2.1, fun i hi => ?_⟩
  obtain ⟨h1, h2, h3, h4, h5⟩ := h.2.2.2 i hi
  have k := f.1.2.2 (265 + 2 * i) (twS_lv hw (by omega)) (by unfold nmF; omega)
  exact ⟨((f.1.2.2 264 (twS_lv hw (by decide)) (by unfold nmF; omega) i).2.2).trans h1, (t _ (by omega)).trans h2, ((k 0).1).trans h3, ((k 1).2.2).trans h4, (t _ (by omega)).trans h5⟩
theorem fi_mem {v : Nat} : ∀ {l : List Nat}, v ∈ l → fi (fun u => u == v) l < l.length
  | a :: t, h => by
    unfold fi
    by_cases c : (a == v) = true
    · rw [if_pos c]; exact Nat.succ_pos _
    · rw [if_neg c]
      rcases List.mem_cons.mp h with g | g
      · exact absurd (by rw [g]; exact beq_self_eq_true a) c
      · exact Nat.succ_lt_succ (fi_mem g)
theorem fi_not {v : Nat} : ∀ {l : List Nat}, v ∉ l → fi (fun u => u == v) l = l.length
  | [], _ => rfl
  | a :: t, h => by
    unfold fi
    rw [if_neg (fun c => h (by rw [eq_of_beq c]; exact List.mem_cons_self ..)), fi_not fun g => h (List.mem_cons_of_mem _ g)]
    rfl
theorem fi_app {v : Nat} {s : List Nat} : ∀ {l : List Nat}, v ∈ l → fi (fun u => u == v) (l ++ s) = fi (fun u => u == v) l
  | a :: t, h => by
    show fi _ (a :: (t ++ s)) = _
    unfold fi
    by_cases c : (a == v) = true
    · rw [if_pos c, if_pos c]
    · rw [if_neg c, if_neg c]
      rcases List.mem_cons.mp h with g | g
      · exact absurd (by rw [g]; exact beq_self_eq_true a) c
      · rw [fi_app g]
theorem fi_new {v : Nat} : ∀ {l : List Nat}, v ∉ l → fi (fun u => u == v) (l ++ [v]) = l.length
  | [], _ => by
    show fi _ [v] = 0
    unfold fi
    rw [if_pos (beq_self_eq_true v)]
  | a :: t, h => by
    show fi _ (a :: (t ++ [v])) = _
    unfold fi
    rw [if_neg (fun c => h (by rw [eq_of_beq c]; exact List.mem_cons_self ..)), fi_new fun g => h (List.mem_cons_of_mem _ g)]
    rfl
/-- the state of what is met -/
def stO (met : List Nat) (v : Nat) : Option Nat := if v ∈ met then some (fi (fun u => u == v) met) else none
theorem stO_in {met : List Nat} {v : Nat} (h : v ∈ met) : stO met v = some (fi (fun u => u == v) met) := if_pos h
theorem stO_not {met : List Nat} {v : Nat} (h : v ∉ met) : stO met v = none := if_neg h
theorem stO_s {met : List Nat} (h : met.length ≤ 40) (v : Nat) : sml (stO met v) := by
  intro u hu
  unfold stO at hu
  split at hu
  · next c =>
    rw [← Option.some.inj hu]
    have := fi_mem c
    omega
  · cases hu
theorem stO_new {met : List Nat} {v u : Nat} (h : v ∉ met) : stO (met ++ [v]) u = if u = v then some met.length else stO met u := by
  by_cases c : u = v
  · subst c
    rw [if_pos rfl, stO_in (List.mem_append.mpr (.inr (List.mem_singleton.mpr rfl))), fi_new h]
  · rw [if_neg c]
    by_cases g : u ∈ met
    · rw [stO_in g, stO_in (List.mem_append.mpr (.inl g)), fi_app g]
    · rw [stO_not g, stO_not (fun q => (List.mem_append.mp q).elim g fun q => c (List.mem_singleton.mp q))]
def nxS (o : Option Nat) : Option Nat := match o with
  | none => none
  | some j => some (265 + 2 * j)
/-- behind some steps -/
def nmS (n : Nat) (z : aSt) (met : List Nat) (out : List (Option Nat)) (z1 : aSt) : Prop :=
  gI z1 263 1 = nI met.length ∧ 1 ≤ met.length ∧ met.Nodup ∧ (∀ v ∈ met, v < n) ∧ out.length ≤ 8 * met.length ∧ (∀ i, i < met.length → gI z1 259 i = nI (met.getD i 0)) ∧ (∀ v, v < n → gI z1 260 v = oI (stO met v)) ∧ (∀ i, i < out.length → gR z1 (266 + 2 * (i / 8)) (i % 8) = nxS (out.getD i none)) ∧ (∀ o ∈ out, ∀ j, o = some j → j < met.length) ∧ nmR z z1
def nmQ (n : Nat) (z : aSt) (r : List Nat × List (Option Nat)) (o : aRes) (z' : aSt) : Prop := o = .inl none ∧ gI z' 263 1 = nI r.1.length ∧ r.1.length ≤ n ∧ r.2.length = 8 * r.1.length ∧ (∀ i, i < r.2.length → gR z' (266 + 2 * (i / 8)) (i % 8) = nxS (r.2.getD i none)) ∧ (∀ o ∈ r.2, ∀ j, o = some j → j < r.1.length) ∧ nmR z z'
def numP (lk : Nat → Option Nat) (to : Nat → Nat) : List Nat × List (Option Nat) := match lk 0 with
  | none => ([], [])
  | some v => nmb (fun r x => lk (to (8 * r + x))) 321 [v] []
theorem nm_len {n : Nat} {z z1 : aSt} {met : List Nat} {out : List (Option Nat)} (h : nmS n z met out z1) : met.length ≤ n := nd_len n met h.2.2.1 h.2.2.2.1
theorem gd_appO {l : List (Option Nat)} {w : Option Nat} {i : Nat} : (l ++ [w]).getD i none = if i < l.length then l.getD i none else if i = l.length then w else none := by
  rw [List.getD_eq_getElem?_getD, List.getD_eq_getElem?_getD, List.getElem?_append]
  split
  · rfl
  · by_cases c : i = l.length
    · rw [if_pos c, c, Nat.sub_self]; rfl
    · rw [if_neg c, List.getElem?_eq_none (by show 1 ≤ _; omega)]; rfl
/-- the entry at hand is written -/
theorem nm_out {n : Nat} {z z1 : aSt} {met : List Nat} {out : List (Option Nat)} {o : Option Nat} (hn : n ≤ 40) (h : nmS n z met out z1) (ho : ∀ j, o = some j → j < met.length) (hl : out.length < 8 * met.length) : nmS n z met (out ++ [o]) (sR z1 (266 + 2 * (out.length / 8)) (out.length % 8) (nxS o)) := by
  have hlen := nm_len h
  obtain ⟨h1, h2, h3, h4, h5, h6, h7, h8, h9, h10⟩ := h
  have hk : out.length / 8 < 40 := by omega
  have e : (out ++ [o]).length = out.length + 1 := List.length_append
  refine ⟨h1, h2, h3, h4, by omega, h6, h7, fun i hi => ?_, fun q hq j hj => ?_, nmR_trans h10 (nmR_sR (by omega))⟩
  · rw [gd_appO]
    by_cases c : i < out.length
    · rw [if_pos c, ← h8 i c, gR_sR]
      split
      · next g1 =>
        rw [if_neg (by omega)]
      · rfl
    · have ei : i = out.length := by omega
      rw [if_neg c, if_pos ei, ei]
      exact gR_same ..
  · rcases List.mem_append.mp hq with g | g
    · exact h9 q g j hj
    · rw [List.mem_singleton.mp g] at hj
      exact ho j hj
/-- one more is met -/
theorem nm_new {n v : Nat} {z z1 : aSt} {met : List Nat} {out : List (Option Nat)} (h : nmS n z met out z1) (hv : v < n) (hm : v ∉ met) : nmS n z (met ++ [v]) out (sI (sI (sI z1 259 met.length (nI v)) 260 v (nI met.length)) 263 1 (nI (met.length + 1))) := by
  obtain ⟨h1, h2, h3, h4, h5, h6, h7, h8, h9, h10⟩ := h
  have e : (met ++ [v]).length = met.length + 1 := List.length_append
  refine ⟨by rw [e]; exact gI_same .., by omega, ?_, fun u hu => ?_, by omega, fun i hi => ?_, fun u hu => ?_, h8, fun q hq j hj => ?_, nmR_trans (nmR_trans (nmR_trans h10 (nmR_sI (.inl rfl))) (nmR_sI (.inr (.inl rfl)))) (nmR_sI (.inr (.inr ⟨rfl, rfl⟩)))⟩
  · rw [List.nodup_append]
    refine ⟨h3, List.nodup_cons.mpr ⟨fun h => (by cases h), List.nodup_nil⟩, fun a ha b hb g => ?_⟩
    rw [List.mem_singleton.mp hb] at g
    exact hm (g ▸ ha)
  · rcases List.mem_append.mp hu with g | g
    · exact h4 u g
    · rw [List.mem_singleton.mp g]; exact hv
  · rw [gI_ne (by decide), gI_ne (by decide), gd_app1]
    by_cases c : i < met.length
    · rw [if_pos c, gI_nk (by omega)]
      exact h6 i c
    · have ei : i = met.length := by omega
      rw [if_neg c, if_pos ei, ei]
      exact gI_same ..
  · rw [gI_ne (by decide), stO_new hm]
    by_cases c : u = v
    · subst c
      rw [if_pos rfl]
      exact gI_same ..
    · rw [if_neg c, gI_nk c, gI_ne (by decide)]
      exact h7 u hu
  · have := h9 q hq j hj
    omega
theorem x_number1 {d n : Nat} {lk : Nat → Option Nat} {to : Nat → Nat} {z : aSt} (hw : twS z) (hmo : monS z) (hn : n ≤ 40) (hto : toA z n to) (hlw : lkw lk) (hL : lkI z 258 n lk) : ∀ (f k x : Nat) (met : List Nat) (out : List (Option Nat)) (z1 : aSt) (v5 : Option Value), f + out.length = 321 → 8 * k + x = out.length → x < 8 → k < met.length → nmS n z met out z1 →
    wR (aEx d) aM_X1_number (nmQ n z (nmb (fun r x => lk (to (8 * r + x))) f met out)) 83 [some (.ref 100), some (.ref 263), some (.ref 259), some (.int (nI k)), some (.int (nI x)), v5] [] z1
  | 0, k, x, met, out, z1, v5, hf, hkx, hx, hk, s => by
    have := nm_len s
    omega
  | f + 1, k, x, met, out, z1, v5, hf, hkx, hx, hk, s => by
    have hlen := nm_len s
    have hdiv : out.length / 8 = k := by omega
    have hmod : out.length % 8 = x := by omega
    have w1 := twS_nm hw s.2.2.2.2.2.2.2.2.2
    have m1 := monS_nm hmo hw s.2.2.2.2.2.2.2.2.2
    have fz := s.2.2.2.2.2.2.2.2.2.1
    have hL1 : lkI z1 258 n lk := fun i hi => ((fz.2.2 258 (twS_lv hw (by decide)) (by unfold nmF; omega) i).1).trans (hL i hi)
    have hto1 : toA z1 n to := fun i hi => ⟨((fz.2.2 257 (twS_lv hw (by decide)) (by unfold nmF; omega) i).1).trans (hto i hi).1, (hto i hi).2⟩
    have hT : (gT z1 100).1 = 0 := by rw [w1.1]
    have hT3 : (gT z1 263).1 = 5 := by rw [m1.1]
    have hr : met.getD k 0 < n := s.2.2.2.1 _ (get_mem hk)
    have h259 := s.2.2.2.2.2.1 k hk
    have h260 := s.2.2.2.2.2.2.1
    unfold nmb
    rw [if_pos (by omega), hdiv, hmod]
    -- a step's end
    have tail : ∀ (met2 : List Nat) (o : Option Nat) (z2 : aSt) (v5 : Option Value), k < met2.length → out.length < 8 * met2.length → (∀ j, o = some j → j < met2.length) → nmS n z met2 out z2 → wR (aEx d) aM_X1_number (nmQ n z (nmb (fun r x => lk (to (8 * r + x))) f met2 (out ++ [o]))) 191 [some (.ref 100), some (.ref 263), some (.ref 259), some (.int (nI k)), some (.int (nI x)), v5] [] (sR z2 (266 + 2 * k) x (nxS o)) := by
      intro met2 o z2 v5 hk2 hl2 ho s2
      have s3 := nm_out hn s2 ho hl2
      rw [hdiv, hmod] at s3
      generalize sR z2 (266 + 2 * k) x (nxS o) = z3 at s3 ⊢
      have e : (out ++ [o]).length = out.length + 1 := List.length_append
      have w3 := twS_nm hw s3.2.2.2.2.2.2.2.2.2
      have m3 := monS_nm hmo hw s3.2.2.2.2.2.2.2.2.2
      have hT33 : (gT z3 263).1 = 5 := by rw [m3.1]
      have hlen3 := nm_len s3
      have h35 := s3.2.2.2.2.1
      refine w_iinc rfl rfl (nI_1 _) rfl rfl ?_
      refine w_nx (pc' := 83) rfl ?_
      by_cases cx : x + 1 < 8
      · exact x_number1 hw hmo hn hto hlw hL f k (x + 1) met2 (out ++ [o]) z3 v5 (by omega) (by omega) cx hk2 s3
      · refine w_nx (pc' := 85) rfl ?_
        refine w_nx (pc' := 87) (S' := .int (nI 8) :: _) rfl ?_
        refine w_ncge rfl rfl rfl (rfl) (rfl) (by omega) (by omega) (fun hb2 => ?_) (fun hb2 => ?_)
        · refine w_iinc rfl rfl (nI_1 _) rfl rfl ?_
          refine w_nx (pc' := 72) rfl ?_
          refine w_nx (pc' := 73) rfl ?_
          refine w_nx (pc' := 74) rfl ?_
          refine w_getI rfl rfl (hT33) rfl rfl ?_
          refine w_top (s3.1) ?_
          refine w_ncge rfl rfl rfl (rfl) (rfl) (by omega) (by omega) (fun hb3 => ?_) (fun hb3 => ?_)
          · match f with
            | 0 => omega
            | f + 1 =>
              unfold nmb
              rw [if_neg (by omega)]
              exact w_fin rfl ⟨rfl, s3.1, hlen3, (by show (out ++ [o]).length = 8 * met2.length; omega), s3.2.2.2.2.2.2.2.1, s3.2.2.2.2.2.2.2.2.1, s3.2.2.2.2.2.2.2.2.2⟩
          · refine w_nx (pc' := 81) (S' := .int (nI 0) :: _) rfl ?_
            refine w_nx (pc' := 83) rfl ?_
            exact x_number1 hw hmo hn hto hlw hL f (k + 1) 0 met2 (out ++ [o]) z3 v5 (by omega) (by omega) (by decide) hb3 s3
        · omega
    refine w_nx (pc' := 85) rfl ?_
    refine w_nx (pc' := 87) (S' := .int (nI 8) :: _) rfl ?_
    refine w_ncge rfl rfl rfl (rfl) (rfl) (by omega) (by omega) (fun hb => ?_) (fun hb => ?_)
    · omega
    · have ht := hto1 (8 * met.getD k 0 + x) (by omega)
      have hlt := hL1 _ ht.2
      have hsm := lks_w hlw (to (8 * met.getD k 0 + x)) (by omega)
      refine w_nx (pc' := 91) rfl ?_
      refine w_getR rfl rfl (hT) (congrArg va_rf (w1.2.2.1.2.2.2.2.1)) rfl ?_
      refine w_nx (pc' := 95) rfl ?_
      refine w_getR rfl rfl (hT) (congrArg va_rf (w1.2.2.1.2.2.2.1)) rfl ?_
      refine w_nx (pc' := 100) (S' := .int (nI 8) :: _) rfl ?_
      refine w_nx (pc' := 101) rfl ?_
      refine w_nx (pc' := 102) rfl ?_
      refine w_ald rfl (fun _ _ _ _ _ _ => rfl) (w1.2.2.2.1.2.2.2.1) rfl (rfl) (by omega) (by decide) rfl rfl ?_
      refine w_top (h259) ?_
      refine w_nx (pc' := 104) rfl ?_
      refine w_top (pk_mul _ _) ?_
      refine w_nx (pc' := 106) rfl ?_
      refine w_nx (pc' := 107) rfl ?_
      refine w_top (nI_add _ _) ?_
      refine w_ald rfl (fun _ _ _ _ _ _ => rfl) (w1.2.2.2.1.2.1) rfl rfl (show 8 * met.getD k 0 + x < 320 by omega) (by decide) rfl rfl ?_
      refine w_top ht.1 ?_
      refine w_ald rfl (fun _ _ _ _ _ _ => rfl) (w1.2.2.2.1.2.2.1) rfl rfl (show to (8 * met.getD k 0 + x) < 40 by omega) (by decide) rfl rfl ?_
      refine w_top hlt ?_
      refine w_nx (pc' := 111) rfl ?_
      refine w_nx (pc' := 113) rfl ?_
      refine w_nx (pc' := 114) (S' := .int ((-1)) :: _) rfl ?_
      cases hv : lk (to (8 * met.getD k 0 + x)) with
      | none =>
        refine w_iceq rfl rfl rfl (fun _ => ?_) (fun g => absurd rfl g)
        have mk := m1.2.2.2 k (by omega)
        have hTs : (gT z1 (265 + 2 * k)).1 = 6 := by rw [mk.2.1]
        refine w_nx (pc' := 158) rfl ?_
        refine w_getR rfl rfl (hT3) (congrArg va_rf (m1.2.1)) rfl ?_
        refine w_nx (pc' := 162) rfl ?_
        refine w_ald rfl (fun _ _ _ _ _ _ => rfl) (m1.2.2.1) rfl (rfl) (by omega) (by decide) (congrArg va_rf (mk.1)) rfl ?_
        refine w_getR rfl rfl (hTs) (congrArg va_rf (mk.2.2.2.1)) rfl ?_
        refine w_nx (pc' := 168) rfl ?_
        refine w_nx (pc' := 170) rfl ?_
        refine w_nx (pc' := 171) (S' := .int ((-1)) :: _) rfl ?_
        refine w_icne rfl rfl rfl (fun g => absurd rfl g) (fun _ => ?_)
        refine w_nx (pc' := 175) rfl ?_
        refine w_nx (pc' := 190) rfl ?_
        refine w_aastN rfl mk.2.2.2.2 (by omega) rfl rfl hx (by decide) rfl ?_
        exact tail met none z1 _ hk (by omega) (fun j hj => by cases hj) s
      | some v =>
        have hvn : v < n := by have := hlw _ v hv; omega
        have hne : oI (some v) ≠ -1 := nI_nm (by omega)
        refine w_iceq rfl rfl rfl (fun g => absurd g hne) (fun _ => ?_)
        have fin : ∀ (met2 : List Nat) (z2 : aSt), v ∈ met2 → k < met2.length → out.length < 8 * met2.length → nmS n z met2 out z2 → wR (aEx d) aM_X1_number (nmQ n z (nmb (fun r x => lk (to (8 * r + x))) f met2 (out ++ [some (fi (fun u => u == v) met2)]))) 157 [some (.ref 100), some (.ref 263), some (.ref 259), some (.int (nI k)), some (.int (nI x)), some (.int (oI (some v)))] [] z2 := by
          intro met2 z2 hin hk2 hl2 s2
          have w2 := twS_nm hw s2.2.2.2.2.2.2.2.2.2
          have m2 := monS_nm hmo hw s2.2.2.2.2.2.2.2.2.2
          have hlen2 := nm_len s2
          have mk := m2.2.2.2 k (by omega)
          have hTs : (gT z2 (265 + 2 * k)).1 = 6 := by rw [mk.2.1]
          have hT32 : (gT z2 263).1 = 5 := by rw [m2.1]
          have hT02 : (gT z2 100).1 = 0 := by rw [w2.1]
          have hfi := fi_mem hin
          have h260' : gI z2 260 v = nI (fi (fun u => u == v) met2) := by rw [s2.2.2.2.2.2.2.1 v hvn, stO_in hin]; rfl
          have mj := m2.2.2.2 (fi (fun u => u == v) met2) (by omega)
          refine w_nx (pc' := 158) rfl ?_
          refine w_getR rfl rfl (hT32) (congrArg va_rf (m2.2.1)) rfl ?_
          refine w_nx (pc' := 162) rfl ?_
          refine w_ald rfl (fun _ _ _ _ _ _ => rfl) (m2.2.2.1) rfl (rfl) (by omega) (by decide) (congrArg va_rf (mk.1)) rfl ?_
          refine w_getR rfl rfl (hTs) (congrArg va_rf (mk.2.2.2.1)) rfl ?_
          refine w_nx (pc' := 168) rfl ?_
          refine w_nx (pc' := 170) rfl ?_
          refine w_nx (pc' := 171) (S' := .int ((-1)) :: _) rfl ?_
          refine w_icne rfl rfl rfl (fun _ => ?_) (fun g => absurd hne g)
          refine w_nx (pc' := 179) rfl ?_
          refine w_getR rfl rfl (hT32) (congrArg va_rf (m2.2.1)) rfl ?_
          refine w_nx (pc' := 183) rfl ?_
          refine w_getR rfl rfl (hT02) (congrArg va_rf (w2.2.2.1.2.2.2.2.2.2.1)) rfl ?_
          refine w_nx (pc' := 188) rfl ?_
          refine w_ald rfl (fun _ _ _ _ _ _ => rfl) (w2.2.2.2.1.2.2.2.2.1) rfl rfl (show v < 40 by omega) (by decide) rfl rfl ?_
          refine w_top h260' ?_
          refine w_ald rfl (fun _ _ _ _ _ _ => rfl) (m2.2.2.1) rfl rfl (show fi (fun u => u == v) met2 < 40 by omega) (by decide) (congrArg va_rf mj.1) rfl ?_
          refine w_aast rfl mk.2.2.2.2 (by omega) (by rw [mj.2.1]; rfl) rfl hx (by decide) rfl ?_
          exact tail met2 (some (fi (fun u => u == v) met2)) z2 _ hk2 hl2 (fun j hj => by rw [← Option.some.inj hj]; exact hfi) s2
        refine w_nx (pc' := 118) rfl ?_
        refine w_getR rfl rfl (hT) (congrArg va_rf (w1.2.2.1.2.2.2.2.2.2.1)) rfl ?_
        refine w_nx (pc' := 123) rfl ?_
        refine w_ald rfl (fun _ _ _ _ _ _ => rfl) (w1.2.2.2.1.2.2.2.2.1) rfl rfl (show v < 40 by omega) (by decide) rfl rfl ?_
        refine w_top (h260 v hvn) ?_
        refine w_nx (pc' := 125) (S' := .int ((-1)) :: _) rfl ?_
        simp only []
        by_cases hin : v ∈ met
        · rw [if_pos hin]
          refine w_icne rfl rfl rfl (fun _ => ?_) (fun g => absurd (fun e => by have := (oI_none (stO_s (by omega) v)).mp e; rw [stO_in hin] at this; cases this) g)
          exact fin met z1 hin hk (by omega) s
        · rw [if_neg hin]
          refine w_icne rfl rfl rfl (fun g => absurd (by rw [stO_not hin]; rfl) g) (fun _ => ?_)
          have s2 := nm_new s hvn hin
          have hlen2 := nm_len s2
          have e2 : (met ++ [v]).length = met.length + 1 := List.length_append
          have hT32 : (gT z1 263).1 = 5 := hT3
          refine w_nx (pc' := 129) rfl ?_
          refine w_nx (pc' := 130) rfl ?_
          refine w_getI rfl rfl (hT3) rfl rfl ?_
          refine w_top (s.1) ?_
          refine w_nx (pc' := 135) rfl ?_
          refine w_ast (f := fun x => x) rfl (fun _ _ _ _ _ _ => rfl) (w1.2.2.2.1.2.2.2.1) (by decide) (rfl) (show met.length < 40 by omega) (by decide) rfl ?_
          have c1 : gI (sI z1 259 met.length (nI v)) 263 1 = nI met.length := (gI_ne (by decide)).trans s.1
          have hT0a : (gT (sI z1 259 met.length (nI v)) 100).1 = 0 := hT
          have hT3a : (gT (sI z1 259 met.length (nI v)) 263).1 = 5 := hT3
          have h9a : gR (sI z1 259 met.length (nI v)) 100 7 = some 260 := w1.2.2.1.2.2.2.2.2.2.1
          have h9b : gT (sI z1 259 met.length (nI v)) 260 = (40, 40) := w1.2.2.2.1.2.2.2.2.1
          show wR _ _ _ 136 _ _ (sI z1 259 met.length (nI v)) 
          refine w_nx (pc' := 137) rfl ?_
          refine w_getR rfl rfl (hT0a) (congrArg va_rf (h9a)) rfl ?_
          refine w_nx (pc' := 142) rfl ?_
          refine w_nx (pc' := 143) rfl ?_
          refine w_getI rfl rfl (hT3a) rfl rfl ?_
          refine w_top (c1) ?_
          refine w_ast (f := fun x => x) rfl (fun _ _ _ _ _ _ => rfl) h9b (by decide) (rfl) (show v < 40 by omega) (by decide) rfl ?_
          have c2 : gI (sI (sI z1 259 met.length (nI v)) 260 v (nI met.length)) 263 1 = nI met.length := (gI_ne (by decide)).trans c1
          have hT3b : (gT (sI (sI z1 259 met.length (nI v)) 260 v (nI met.length)) 263).1 = 5 := hT3
          refine w_nx (pc' := 148) rfl ?_
          refine w_nx (pc' := 149) rfl ?_
          refine w_getI rfl rfl (hT3b) rfl rfl ?_
          refine w_top (c2) ?_
          refine w_nx (pc' := 153) (S' := .int (nI 1) :: _) rfl ?_
          refine w_nx (pc' := 154) rfl ?_
          refine w_top (nI_add _ _) ?_
          refine w_put rfl rfl (hT3b) (by omega) rfl rfl rfl ?_
          have := fin (met ++ [v]) _ (List.mem_append.mpr (.inr (List.mem_singleton.mpr rfl))) (by omega) (by omega) s2
          rw [fi_new hin] at this
          exact this
/-- no state has been met -/
theorem x_number0 {d n : Nat} {z : aSt} {v3 v4 v5 : Option Value} {Q : aRes → aSt → Prop} (hw : twS z) (h3 : gI z 100 3 = nI n) (hn : n ≤ 40)
    (cont : ∀ z1, nmR z z1 → gI z1 263 1 = gI z 263 1 → (∀ v, v < n → gI z1 260 v = oI none) → wR (aEx d) aM_X1_number Q 28 [some (.ref 100), some (.ref 263), some (.int (nI n)), v3, v4, v5] [] z1) : ∀ (m i : Nat) (z1 : aSt), m + i = n → nmR z z1 → gI z1 263 1 = gI z 263 1 → (∀ v, v < i → gI z1 260 v = oI none) → wR (aEx d) aM_X1_number Q 7 [some (.ref 100), some (.ref 263), some (.int (nI i)), v3, v4, v5] [] z1 := by
  intro m
  induction m with
  | zero =>
    intro i z1 hk f hm h
    have hk' : i = n := by omega
    have w1 := twS_nm hw f
    have hT : (gT z1 100).1 = 0 := by rw [w1.1]
    have c3 : gI z1 100 3 = nI n := ((f.1.2.2 100 (twS_lv hw (by decide)) (by unfold nmF; omega) 3).1).trans h3
    refine w_nx (pc' := 8) rfl ?_
    refine w_nx (pc' := 9) rfl ?_
    refine w_getI rfl rfl (hT) rfl rfl ?_
    refine w_top (c3) ?_
    refine w_ncge rfl rfl rfl (rfl) (rfl) (by omega) (by omega) (fun hb => ?_) (fun hb => ?_)
    · rw [hk'] at h ⊢
      exact cont z1 f hm h
    · omega
  | succ m ih =>
    intro i z1 hk f hm h
    have w1 := twS_nm hw f
    have hT : (gT z1 100).1 = 0 := by rw [w1.1]
    have c3 : gI z1 100 3 = nI n := ((f.1.2.2 100 (twS_lv hw (by decide)) (by unfold nmF; omega) 3).1).trans h3
    refine w_nx (pc' := 8) rfl ?_
    refine w_nx (pc' := 9) rfl ?_
    refine w_getI rfl rfl (hT) rfl rfl ?_
    refine w_top (c3) ?_
    refine w_ncge rfl rfl rfl (rfl) (rfl) (by omega) (by omega) (fun hb => ?_) (fun hb => ?_)
    · omega
    · refine w_nx (pc' := 16) rfl ?_
      refine w_getR rfl rfl (hT) (congrArg va_rf (w1.2.2.1.2.2.2.2.2.2.1)) rfl ?_
      refine w_nx (pc' := 20) rfl ?_
      refine w_nx (pc' := 21) (S' := .int ((-1)) :: _) rfl ?_
      refine w_ast (f := fun x => x) rfl (fun _ _ _ _ _ _ => rfl) (w1.2.2.2.1.2.2.2.2.1) (by omega) (rfl) (by omega) (by decide) rfl ?_
      refine w_iinc rfl rfl (nI_1 _) rfl rfl ?_
      refine w_nx (pc' := 7) rfl ?_
      refine ih (i + 1) _ (by omega) (nmR_trans f (nmR_sI (.inr (.inl rfl)))) ((gI_ne (by decide)).trans hm) fun v hv => ?_
      by_cases c : v = i
      · subst c; exact gI_same ..
      · exact (gI_nk c).trans (h v (by omega))
theorem x_number {d n : Nat} {lk : Nat → Option Nat} {to : Nat → Nat} {z : aSt} (hw : twS z) (hmo : monS z) (h3 : gI z 100 3 = nI n) (hn1 : 1 ≤ n) (hn : n ≤ 40) (hto : toA z n to) (hlw : lkw lk) (hL : lkI z 258 n lk) : aW (d + 1) 21 [.ref 100, .ref 263] z (nmQ n z (numP lk to)) := by
  have hT3 : (gT z 263).1 = 5 := by rw [hmo.1]
  refine w_of (k := 21) (m := aM_X1_number) rfl rfl ?_
  refine w_nx (pc' := 1) rfl ?_
  refine w_nx (pc' := 2) (S' := .int (nI 0) :: _) rfl ?_
  refine w_put rfl rfl (hT3) (by omega) rfl rfl rfl ?_
  refine w_nx (pc' := 6) (S' := .int (nI 0) :: _) rfl ?_
  refine w_nx (pc' := 7) rfl ?_
  have f0 : nmR z (sI z 263 1 (nI 0)) := nmR_sI (.inr (.inr ⟨rfl, rfl⟩))
  refine x_number0 (twS_nm hw f0) ((gI_ne (by decide)).trans h3) hn ?_ n 0 _ rfl (nmR_refl _) rfl (fun v hv => absurd hv (by omega))
  intro z1 f1' hm1 h260
  have f1 := nmR_trans f0 f1'
  have w1 := twS_nm hw f1
  have m1 := monS_nm hmo hw f1
  have hT : (gT z1 100).1 = 0 := by rw [w1.1]
  have hT31 : (gT z1 263).1 = 5 := by rw [m1.1]
  have hL0 : gI z1 258 0 = oI (lk 0) := ((f1.1.2.2 258 (twS_lv hw (by decide)) (by unfold nmF; omega) 0).1).trans (hL 0 hn1)
  have hm0 : gI z1 263 1 = nI 0 := hm1.trans (gI_same ..)
  unfold numP
  refine w_nx (pc' := 29) rfl ?_
  refine w_getR rfl rfl (hT) (congrArg va_rf (w1.2.2.1.2.2.2.2.1)) rfl ?_
  refine w_nx (pc' := 33) (S' := .int (nI 0) :: _) rfl ?_
  refine w_ald rfl (fun _ _ _ _ _ _ => rfl) (w1.2.2.2.1.2.2.1) rfl (rfl) (by omega) (by decide) rfl rfl ?_
  refine w_top (hL0) ?_
  refine w_nx (pc' := 35) (S' := .int ((-1)) :: _) rfl ?_
  cases hk : lk 0 with
  | none =>
    refine w_icne rfl rfl rfl (fun g => absurd rfl g) (fun _ => ?_)
    exact w_fin rfl ⟨rfl, hm0, Nat.zero_le _, rfl, fun i hi => absurd hi (by show ¬ i < 0; omega), (fun o ho => by cases ho), f1⟩
  | some v =>
    have hv0 : v = 0 := by have := hlw 0 v hk; omega
    subst hv0
    refine w_icne rfl rfl rfl (fun _ => ?_) (fun g => absurd (nI_nm (by decide)) g)
    rw [hk] at hL0
    have hL00 : gI z1 258 0 = nI 0 := hL0
    refine w_nx (pc' := 40) rfl ?_
    refine w_getR rfl rfl (hT) (congrArg va_rf (w1.2.2.1.2.2.2.2.2.1)) rfl ?_
    refine w_nx (pc' := 44) rfl ?_
    refine w_nx (pc' := 45) rfl ?_
    refine w_getR rfl rfl (hT) (congrArg va_rf (w1.2.2.1.2.2.2.2.2.2.1)) rfl ?_
    refine w_nx (pc' := 49) rfl ?_
    refine w_getR rfl rfl (hT) (congrArg va_rf (w1.2.2.1.2.2.2.2.1)) rfl ?_
    refine w_nx (pc' := 53) (S' := .int (nI 0) :: _) rfl ?_
    refine w_ald rfl (fun _ _ _ _ _ _ => rfl) (w1.2.2.2.1.2.2.1) rfl (rfl) (by omega) (by decide) rfl rfl ?_
    refine w_top (hL00) ?_
    refine w_nx (pc' := 55) (S' := .int (nI 0) :: _) rfl ?_
    refine w_ast (f := fun x => x) rfl (fun _ _ _ _ _ _ => rfl) (w1.2.2.2.1.2.2.2.2.1) (by decide) (rfl) (show 0 < 40 by omega) (by decide) rfl ?_
    have hT0a : (gT (sI z1 260 0 (nI 0)) 100).1 = 0 := hT
    have h8a : gR (sI z1 260 0 (nI 0)) 100 5 = some 258 := w1.2.2.1.2.2.2.2.1
    have h8b : gT (sI z1 260 0 (nI 0)) 258 = (40, 40) := w1.2.2.2.1.2.2.1
    have h9b : gT (sI z1 260 0 (nI 0)) 259 = (40, 40) := w1.2.2.2.1.2.2.2.1
    have hL0a : gI (sI z1 260 0 (nI 0)) 258 0 = nI 0 := (gI_ne (by decide)).trans hL00
    show wR _ _ _ 56 _ _ (sI z1 260 0 (nI 0))
    refine w_nx (pc' := 57) rfl ?_
    refine w_nx (pc' := 58) (S' := .int (nI 0) :: _) rfl ?_
    refine w_nx (pc' := 59) rfl ?_
    refine w_getR rfl rfl (hT0a) (congrArg va_rf (h8a)) rfl ?_
    refine w_nx (pc' := 63) (S' := .int (nI 0) :: _) rfl ?_
    refine w_ald rfl (fun _ _ _ _ _ _ => rfl) (h8b) rfl (rfl) (by omega) (by decide) rfl rfl ?_
    refine w_top (hL0a) ?_
    refine w_ast (f := fun x => x) rfl (fun _ _ _ _ _ _ => rfl) h9b (by decide) (rfl) (show 0 < 40 by omega) (by decide) rfl ?_
    have hT3b : (gT (sI (sI z1 260 0 (nI 0)) 259 0 (nI 0)) 263).1 = 5 := hT31
    show wR _ _ _ 65 _ _ (sI (sI z1 260 0 (nI 0)) 259 0 (nI 0))
    refine w_nx (pc' := 66) rfl ?_
    refine w_nx (pc' := 67) (S' := .int (nI 1) :: _) rfl ?_
    refine w_put rfl rfl (hT3b) (by omega) rfl rfl rfl ?_
    refine w_nx (pc' := 71) (S' := .int (nI 0) :: _) rfl ?_
    refine w_nx (pc' := 72) rfl ?_
    have s1 : nmS n z [0] [] (sI (sI (sI z1 260 0 (nI 0)) 259 0 (nI 0)) 263 1 (nI 1)) := by
      refine ⟨gI_same .., Nat.le_refl _, List.nodup_cons.mpr ⟨fun h => (by cases h), List.nodup_nil⟩, fun v hv => (by rw [List.mem_singleton.mp hv]; exact hn1), Nat.zero_le _, fun i hi => ?_, fun v hv => ?_, fun i hi => absurd hi (by show ¬ i < 0; omega), (fun o ho => by cases ho), nmR_trans (nmR_trans (nmR_trans f1 (nmR_sI (.inr (.inl rfl)))) (nmR_sI (.inl rfl))) (nmR_sI (.inr (.inr ⟨rfl, rfl⟩)))⟩
      · have : i = 0 := by have : i < 1 := hi; omega
        subst this
        rw [gI_ne (by decide)]
        exact gI_same ..
      · rw [gI_ne (by decide), gI_ne (by decide)]
        by_cases c : v = 0
        · subst c
          exact gI_same ..
        · rw [gI_nk c, stO_not (fun h => c (List.mem_singleton.mp h))]
          exact h260 v hv
    generalize sI (sI (sI z1 260 0 (nI 0)) 259 0 (nI 0)) 263 1 (nI 1) = z2 at s1 ⊢
    have m2 := monS_nm hmo hw s1.2.2.2.2.2.2.2.2.2
    have hT32 : (gT z2 263).1 = 5 := by rw [m2.1]
    refine w_nx (pc' := 73) rfl ?_
    refine w_nx (pc' := 74) rfl ?_
    refine w_getI rfl rfl (hT32) rfl rfl ?_
    refine w_top (s1.1) ?_
    refine w_ncge rfl rfl rfl (rfl) (rfl) (by decide) (by decide) (fun hb => ?_) (fun hb => ?_)
    · exact absurd hb (by decide)
    · refine w_nx (pc' := 81) (S' := .int (nI 0) :: _) rfl ?_
      refine w_nx (pc' := 83) rfl ?_
      exact x_number1 hw hmo hn hto hlw hL 321 0 0 [0] [] z2 _ rfl rfl (by decide) (by decide) s1
