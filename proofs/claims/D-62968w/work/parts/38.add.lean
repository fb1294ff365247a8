/-! ArrayList.add -/
set_option maxRecDepth 100000
theorem j_newLength {d c : Nat} {z : aSt} (hc : c ≤ 50000) (h2 : 2 ≤ c) : aW (d + 1) 149 [.int (nI c), .int (nI 1), .int (nI (c / 2))] z (fun o z' => o = .inl (some (.int (nI (c + c / 2)))) ∧ z' = z) := by
  have hmx : (if nI 1 < nI (c / 2) then nI (c / 2) else nI 1) = nI (c / 2) := by
    by_cases h : 1 < c / 2
    · rw [if_pos ((nI_ltI (by omega) (by omega)).mpr h)]
    · have : c / 2 = 1 := by omega
      rw [this]
      rfl
  refine w_of (k := 149) (m := aM_J7_newLength) rfl rfl ?_
  refine w_nx (pc' := 1) rfl ?_
  refine w_nx (pc' := 2) rfl ?_
  refine w_nx (pc' := 3) rfl ?_
  refine w_nx (pc' := 6) rfl ?_
  refine w_top (hmx) ?_
  refine w_nx (pc' := 7) rfl ?_
  refine w_top (nI_add _ _) ?_
  refine w_nx (pc' := 8) rfl ?_
  refine w_nx (pc' := 9) (S' := .int (nI 0) :: _) rfl ?_
  refine w_nx (pc' := 10) rfl ?_
  refine w_ncge rfl rfl rfl (rfl) (rfl) (by omega) (by omega) (fun hb => ?_) (fun hb => ?_)
  · omega
  · refine w_nx (pc' := 14) rfl ?_
    refine w_nx (pc' := 16) rfl ?_
    refine w_top (y := nI 2147483639) rfl ?_
    refine w_ncgt rfl rfl rfl (rfl) (rfl) (by omega) (by omega) (fun hc => ?_) (fun hc => ?_)
    · omega
    · refine w_nx (pc' := 20) rfl ?_
      exact w_fin rfl (⟨rfl, rfl⟩)
theorem j_copyOf3 {d e c n : Nat} {z : aSt} (hT : gT z e = (49, c)) (he : lv z e) (hn : c ≤ n) (hn2 : n < 65536) (hel : ∀ j, j < c → ∃ b, gR z e j = some b ∧ lv z b ∧ aAst 49 (gT z b).1 = true) :
    aW (d + 1) 154 [.ref e, .int (nI n), .ref 16] z (fun o z' => o = .inl (some (.ref (100 + gZ z))) ∧ z' = cR (aNew z 49 n n) e 0 (100 + gZ z) 0 c) := by
  have hT1 : gT (aNew z 49 n n) e = (49, c) := by rw [gT_new, if_neg (lv_ne he)]; exact hT
  have hmn : (if nI n < nI c then nI n else nI c) = nI c := by
    rw [if_neg]
    intro h
    have := (nI_ltI (by omega) (by omega)).mp h
    omega
  refine w_of (k := 154) (m := aM_J9_copyOf_3) rfl rfl ?_
  refine w_nx (pc' := 1) rfl ?_
  refine w_nx (pc' := 3) rfl ?_
  refine w_an (u := some 16) (v := some 16) rfl rfl rfl rfl (fun h => absurd rfl h) (fun _ => ?_)
  refine w_nx (pc' := 7) rfl ?_
  refine w_newa (t := 49) (pc' := 10) rfl rfl (rfl) (hn2) ?_
  refine w_nx (pc' := 24) rfl ?_
  refine w_nx (pc' := 25) rfl ?_
  refine w_nx (pc' := 26) rfl ?_
  refine w_nx (pc' := 27) (S' := .int (nI 0) :: _) rfl ?_
  refine w_nx (pc' := 28) rfl ?_
  refine w_nx (pc' := 29) (S' := .int (nI 0) :: _) rfl ?_
  refine w_nx (pc' := 30) rfl ?_
  refine w_len rfl (hT1) rfl rfl ?_
  refine w_nx (pc' := 32) rfl ?_
  refine w_nx (pc' := 35) rfl ?_
  refine w_top (hmn) ?_
  refine w_acpR (pc' := 38) (s := e) (d := 100 + gZ z) (sp := 0) (dp := 0) (n := c) rfl rfl hT1 (if_pos rfl) (Nat.le_add_right _ _) rfl rfl rfl rfl (by omega) (by omega) (by omega) (by omega) (fun j hj => ?_) rfl ?_
  · obtain ⟨b, hb, hl, hA⟩ := hel j hj
    rw [gR_new, if_neg (lv_ne he), Nat.zero_add, hb]
    show aAst 49 (gT (aNew z 49 n n) b).1 = true
    rw [gT_new, if_neg (lv_ne hl)]
    exact hA
  refine w_nx (pc' := 39) rfl ?_
  exact w_fin rfl (⟨rfl, rfl⟩)
theorem j_copyOf2 {d e c n : Nat} {z : aSt} (hT : gT z e = (49, c)) (he : lv z e) (hn : c ≤ n) (hn2 : n < 65536) (hel : ∀ j, j < c → ∃ b, gR z e j = some b ∧ lv z b ∧ aAst 49 (gT z b).1 = true) :
    aW (d + 2) 153 [.ref e, .int (nI n)] z (fun o z' => o = .inl (some (.ref (100 + gZ z))) ∧ z' = cR (aNew z 49 n n) e 0 (100 + gZ z) 0 c) := by
  refine w_of (k := 153) (m := aM_J9_copyOf_2) rfl rfl ?_
  refine w_nx (pc' := 1) rfl ?_
  refine w_nx (pc' := 2) rfl ?_
  refine w_nx (pc' := 3) rfl ?_
  refine w_nx (pc' := 6) (L' := [some (.ref e), some (.int (nI n))]) (S' := [.ref 16, .int (nI n), .ref e]) (z1 := z) ?_ ?_
  · have h1 : aNx aM_J9_copyOf_2 3 [some (.ref e), some (.int (nI n))] [.ref e, .int (nI n), .ref e] z = a_gcl 6 [some (.ref e), some (.int (nI n))] [.ref e, .int (nI n), .ref e] z := rfl
    refine h1.trans ?_
    unfold a_gcl
    simp only [hT]
    rfl
  obtain ⟨o, z1, e, q1, q2⟩ := j_copyOf3 (d := d) hT he hn hn2 hel
  subst q1 q2
  refine w_cal (pc' := 9) rfl (rfl) (e) ?_
  exact w_fin rfl (⟨rfl, rfl⟩)
/-- what grow makes -/
def alG (z z' : aSt) (a e c e' c' : Nat) (ps : List Nat) : Prop := e' = 100 + gZ z ∧ gZ z' = gZ z + 1 ∧ gS z' = gS z + c' ∧ gT z' e' = (49, c') ∧ ps.length < c' ∧ 10 ≤ c' ∧ c' ≤ 2 * ps.length + 10 ∧ gS z + c' + 4 * c ≤ gS z + 4 * c' ∧ fr (fun b => b = a) z z' ∧ gR z' a 1 = some e' ∧ (∀ k, gI z' a k = gI z a k) ∧ ∀ i, i < ps.length → gR z' e' i = some (ps.getD i 0)
theorem j_grow2 {d T a e c : Nat} {ps : List Nat} {z : aSt} (h : isAL z T a e c ps) (hA : aAst 49 T = true) (hf : ps.length = c) (hc : ps.length ≤ 20000) :
    aW (d + 3) 51 [.ref a, .int (nI (ps.length + 1))] z (fun o z' => ∃ (e' c' : Nat), o = .inl (some (.ref e')) ∧ alG z z' a e c e' c' ps) := by
  obtain ⟨a1, a2, a3, a4, a5, a6, a7, a8, a9, a10, a11, a12⟩ := h
  have hT : (gT z a).1 = 2 := by rw [a1]
  have hae : a ≠ e := fun g => by rw [g, a6] at a1; cases a1
  refine w_of (k := 51) (m := aM_J2_grow_2) rfl rfl ?_
  refine w_nx (pc' := 1) rfl ?_
  refine w_getR rfl rfl (hT) (congrArg va_rf (a4)) rfl ?_
  refine w_len rfl (a6) rfl rfl ?_
  refine w_nx (pc' := 6) rfl ?_
  refine w_nx (pc' := 7) rfl ?_
  refine w_ifgt rfl rfl rfl (fun hb => ?_) (fun hb => ?_)
  · have hc0 : 0 < c := by
      rcases Nat.eq_zero_or_pos c with g | g
      · rw [g] at hb; exact absurd hb (by decide)
      · exact g
    have hc10 : 10 ≤ c := by rcases a8 with g | g <;> omega
    refine w_nx (pc' := 21) rfl ?_
    refine w_nx (pc' := 22) rfl ?_
    refine w_nx (pc' := 23) rfl ?_
    refine w_nx (pc' := 24) rfl ?_
    refine w_top ((pk_sub (by omega)).trans (congrArg nI (show ps.length + 1 - c = 1 by omega))) ?_
    refine w_nx (pc' := 25) rfl ?_
    refine w_nx (pc' := 26) (S' := .int (nI 1) :: _) rfl ?_
    refine w_nx (pc' := 27) rfl ?_
    refine w_top (nI_shr (by omega) (by decide)) ?_
    obtain ⟨o, z1, e1, q1, q2⟩ := (j_newLength (d := d) (z := z) (c := c) (by omega) (by omega)).up
    subst q1
    rw [q2] at e1
    refine w_cal (pc' := 30) rfl (rfl) (e1) ?_
    refine w_nx (pc' := 31) rfl ?_
    refine w_nx (pc' := 32) rfl ?_
    refine w_nx (pc' := 33) rfl ?_
    refine w_getR rfl rfl (hT) (congrArg va_rf (a4)) rfl ?_
    refine w_nx (pc' := 37) rfl ?_
    obtain ⟨o, z1, e1, q1, q2⟩ := j_copyOf2 (d := d) (n := c + c / 2) a6 a7 (by omega) (by omega) (fun j hj => ⟨_, a11 j (by omega), (a12 _ (get_mem (by omega))).2, by rw [(a12 _ (get_mem (show j < ps.length by omega))).1]; exact hA⟩)
    subst q1 q2
    refine w_cal (pc' := 40) rfl (rfl) (e1) ?_
    refine w_nx (pc' := 41) rfl ?_
    refine w_put rfl rfl ((congrArg Prod.fst (gT_new z 49 (c + c / 2) (c + c / 2) a)).trans (by rw [if_neg (lv_ne a3)]; exact hT)) a2 rfl rfl rfl ?_
    refine w_fin rfl ⟨_, c + c / 2, rfl, rfl, rfl, rfl, if_pos rfl, by omega, by omega, by omega, by omega, ?_, gR_same .., fun k => ?_, fun i hi => ?_⟩
    · refine fr_old (G := fun b => b = a) (fr_old (G := fun b => b = 100 + gZ z) fr_new (fr_cR fun _ => rfl) fun b hb g => absurd g (lv_ne hb)) (fr_sR fun _ => rfl) fun b _ g => g
    · show gI (aNew z 49 (c + c / 2) (c + c / 2)) a k = _
      rw [gI_new, if_neg (lv_ne a3)]
    · rw [gR_ne (fun g => lv_ne a3 g.symm), gR_cR, if_pos rfl, if_pos (by omega), gR_new, if_neg (lv_ne a7), Nat.zero_add, Nat.sub_zero]
      exact a11 i hi
  · have hc0 : c = 0 := by
      rcases Nat.eq_zero_or_pos c with g | g
      · exact g
      · exact absurd ((nI_ltI (a := 0) (by omega) (by omega)).mpr g) hb
    have he : e = 13 := by rcases a8 with g | g <;> omega
    have hp0 : ps = [] := List.eq_nil_of_length_eq_zero (by omega)
    subst he hc0 hp0
    refine w_nx (pc' := 11) rfl ?_
    refine w_getR rfl rfl (hT) (congrArg va_rf (a4)) rfl ?_
    refine w_nx (pc' := 17) rfl ?_
    refine w_ae (u := some 13) (v := some 13) rfl rfl rfl rfl (fun _ => ?_) (fun h => absurd rfl h)
    refine w_nx (pc' := 46) rfl ?_
    refine w_nx (pc' := 48) (S' := .int (nI 10) :: _) rfl ?_
    refine w_nx (pc' := 49) rfl ?_
    refine w_nx (pc' := 52) rfl ?_
    refine w_top ((show _ = nI 10 from rfl)) ?_
    refine w_newa (t := 49) (pc' := 55) (n := 10) rfl rfl rfl (by decide) ?_
    refine w_nx (pc' := 56) rfl ?_
    refine w_put rfl rfl ((congrArg Prod.fst (gT_new z 49 10 10 a)).trans (by rw [if_neg (lv_ne a3)]; exact hT)) a2 rfl rfl rfl ?_
    refine w_fin rfl ⟨_, 10, rfl, rfl, rfl, rfl, if_pos rfl, by decide, by decide, by decide, by omega, ?_, gR_same .., fun k => ?_, fun i hi => (by cases hi)⟩
    · exact fr_old (G := fun b => b = a) fr_new (fr_sR fun _ => rfl) fun b _ g => g
    · show gI (aNew z 49 10 10) a k = _
      rw [gI_new, if_neg (lv_ne a3)]
theorem j_grow {d T a e c : Nat} {ps : List Nat} {z : aSt} (h : isAL z T a e c ps) (hA : aAst 49 T = true) (hf : ps.length = c) (hc : ps.length ≤ 20000) :
    aW (d + 4) 50 [.ref a] z (fun o z' => ∃ (e' c' : Nat), o = .inl (some (.ref e')) ∧ alG z z' a e c e' c' ps) := by
  have hT : (gT z a).1 = 2 := by rw [h.1]
  refine w_of (k := 50) (m := aM_J2_grow) rfl rfl ?_
  refine w_nx (pc' := 1) rfl ?_
  refine w_nx (pc' := 2) rfl ?_
  refine w_getI rfl rfl (hT) rfl rfl ?_
  refine w_top (h.2.2.2.2.1) ?_
  refine w_nx (pc' := 6) (S' := .int (nI 1) :: _) rfl ?_
  refine w_nx (pc' := 7) rfl ?_
  refine w_top (nI_add _ _) ?_
  obtain ⟨o, z1, e1, e', c', q1, q2⟩ := j_grow2 (d := d) h hA hf hc
  subst q1
  refine w_cal (pc' := 10) rfl (a_cv0 rfl rfl rfl (hT) rfl rfl) (e1) ?_
  exact w_fin rfl (⟨e', c', rfl, q2⟩)
theorem j_add2 {d T a e c p : Nat} {ps : List Nat} {z : aSt} (h : isAL z T a e c ps) (hA : aAst 49 T = true) (hc : ps.length ≤ 20000) (hp : (gT z p).1 = T) (hlp : lv z p) :
    aW (d + 5) 49 [.ref a, .ref p, .ref e, .int (nI ps.length)] z (fun o z' => ∃ (e' c' : Nat), o = .inl none ∧ isAL z' T a e' c' (ps ++ [p]) ∧ fr (fun b => b = a ∨ b = e) z z' ∧ (e' = e ∨ 100 + gZ z ≤ e') ∧ gZ z' ≤ gZ z + 1 ∧ gS z' + 4 * c ≤ gS z + 4 * c') := by
  have h0 := h
  obtain ⟨a1, a2, a3, a4, a5, a6, a7, a8, a9, a10, a11, a12⟩ := h
  have hT : (gT z a).1 = 2 := by rw [a1]
  have hae : a ≠ e := fun g => by rw [g, a6] at a1; cases a1
  have hcc : c < 2 ^ 31 := by omega
  refine w_of (k := 49) (m := aM_J2_add_2) rfl rfl ?_
  refine w_nx (pc' := 1) rfl ?_
  refine w_nx (pc' := 2) rfl ?_
  refine w_len rfl (a6) rfl rfl ?_
  refine w_ncne rfl rfl rfl (rfl) (rfl) (by omega) (by omega) (fun hb => ?_) (fun hb => ?_)
  · have he : 100 ≤ e := by rcases a8 with g | g <;> omega
    refine w_nx (pc' := 12) rfl ?_
    refine w_nx (pc' := 13) rfl ?_
    refine w_nx (pc' := 14) rfl ?_
    refine w_aast rfl a6 he (by rw [hp]; exact hA) rfl (by omega) hcc rfl ?_
    refine w_nx (pc' := 16) rfl ?_
    refine w_nx (pc' := 17) rfl ?_
    refine w_nx (pc' := 18) (S' := .int (nI 1) :: _) rfl ?_
    refine w_nx (pc' := 19) rfl ?_
    refine w_top (nI_add _ _) ?_
    refine w_put rfl rfl hT a2 rfl rfl rfl ?_
    refine w_fin rfl ⟨e, c, rfl, ⟨a1, a2, a3, ?_, ?_, a6, a7, a8, ?_, ?_, fun i hi => ?_, fun q hq => ?_⟩, fr_old (G := fun b => b = a) (fr_sR fun _ => .inr rfl) (fr_sI fun _ => rfl) (fun b _ g => .inl g), .inl rfl, Nat.le_succ _, Nat.le_refl _⟩
    · exact (gR_ne hae).trans a4
    · rw [gI_same, List.length_append]; rfl
    · rw [List.length_append]; show ps.length + 1 ≤ c; omega
    · rw [List.length_append]; show c ≤ 2 * (ps.length + 1) + 10; omega
    · rw [List.length_append] at hi
      show gR (sR z e ps.length (some p)) e i = _
      rw [gR_sR, if_pos rfl, gd_app]
      by_cases g : i = ps.length
      · rw [if_pos g, if_neg (by omega), g, Nat.sub_self]; rfl
      · have : i < ps.length := by have : i < ps.length + 1 := hi; omega
        rw [if_neg g, if_pos this, a11 i this]
    · rcases List.mem_append.mp hq with g | g
      · exact a12 q g
      · rw [List.mem_singleton.mp g]; exact ⟨hp, hlp⟩
  · refine w_nx (pc' := 7) rfl ?_
    obtain ⟨o, z1, e1, e', c', q1, q2⟩ := j_grow (d := d) h0 hA hb hc
    subst q1
    obtain ⟨g1, g2, g3, g4, g5, g6, g7, g8, g9, g10, g11, g12⟩ := q2
    have hT1 : (gT z1 a).1 = 2 := by rw [g9.2.1 a a3, a1]
    have hp1 : (gT z1 p).1 = T := by rw [g9.2.1 p hlp, hp]
    have hae' : a ≠ e' := by rw [g1]; exact lv_ne a3
    have hcc' : c' < 2 ^ 31 := by omega
    refine w_cal (pc' := 10) rfl (a_cv0 rfl rfl rfl (hT) rfl rfl) (e1) ?_
    refine w_nx (pc' := 11) rfl ?_
    refine w_nx (pc' := 12) rfl ?_
    refine w_nx (pc' := 13) rfl ?_
    refine w_nx (pc' := 14) rfl ?_
    refine w_aast rfl g4 (by omega) (by rw [hp1]; exact hA) rfl (by omega) hcc' rfl ?_
    refine w_nx (pc' := 16) rfl ?_
    refine w_nx (pc' := 17) rfl ?_
    refine w_nx (pc' := 18) (S' := .int (nI 1) :: _) rfl ?_
    refine w_nx (pc' := 19) rfl ?_
    refine w_top (nI_add _ _) ?_
    refine w_put rfl rfl hT1 a2 rfl rfl rfl ?_
    refine w_fin rfl ⟨e', c', rfl, ⟨(g9.2.1 a a3).trans a1, a2, (show lv z1 a from lv_fr g9 a3), ?_, ?_, g4, ?_, .inr ⟨by omega, g6⟩, ?_, ?_, fun i hi => ?_, fun q hq => ?_⟩, ?_, .inr (Nat.le_of_eq g1.symm), Nat.le_of_eq g2, ?_⟩
    · exact (gR_ne hae').trans g10
    · rw [gI_same, List.length_append]; rfl
    · show e' < 100 + gZ z1
      omega
    · rw [List.length_append]; show ps.length + 1 ≤ c'; omega
    · rw [List.length_append]; show c' ≤ 2 * (ps.length + 1) + 10; omega
    · rw [List.length_append] at hi
      show gR (sR z1 e' ps.length (some p)) e' i = _
      rw [gR_sR, if_pos rfl, gd_app]
      by_cases g : i = ps.length
      · rw [if_pos g, if_neg (by omega), g, Nat.sub_self]; rfl
      · have : i < ps.length := by have : i < ps.length + 1 := hi; omega
        rw [if_neg g, if_pos this, g12 i this]
    · rcases List.mem_append.mp hq with g | g
      · have := a12 q g
        refine ⟨?_, (show lv z1 q from lv_fr g9 this.2)⟩
        show (gT z1 q).1 = T
        rw [g9.2.1 q this.2]
        exact this.1
      · rw [List.mem_singleton.mp g]; exact ⟨hp1, (show lv z1 p from lv_fr g9 hlp)⟩
    · refine fr_old (G := fun b => b = a ∨ b = e') (fr_mono g9 fun b _ g => .inl g) (fr_old (G := fun b => b = a) (fr_sR fun _ => .inr rfl) (fr_sI fun _ => rfl) (fun b _ g => .inl g)) (fun b hb g => ?_)
      rcases g with g | g
      · exact .inl g
      · rw [g1] at g; exact absurd g (lv_ne hb)
    · show gS z1 + 4 * c ≤ gS z + 4 * c'
      omega
theorem j_add {d T a e c p : Nat} {ps : List Nat} {z : aSt} (h : isAL z T a e c ps) (hA : aAst 49 T = true) (hc : ps.length ≤ 20000) (hp : (gT z p).1 = T) (hlp : lv z p) :
    aW (d + 6) 48 [.ref a, .ref p] z (fun o z' => ∃ (e' c' : Nat), o = .inl (some (.int 1)) ∧ isAL z' T a e' c' (ps ++ [p]) ∧ fr (fun b => b = a ∨ b = e) z z' ∧ (e' = e ∨ 100 + gZ z ≤ e') ∧ gZ z' ≤ gZ z + 1 ∧ gS z' + 4 * c ≤ gS z + 4 * c') := by
  have h0 := h
  obtain ⟨a1, a2, a3, a4, a5, a6, a7, a8, a9, a10, a11, a12⟩ := h
  have hT : (gT z a).1 = 2 := by rw [a1]
  refine w_of (k := 48) (m := aM_J2_add) rfl rfl ?_
  refine w_nx (pc' := 1) rfl ?_
  refine w_nx (pc' := 2) rfl ?_
  refine w_getI rfl rfl (hT) rfl rfl ?_
  refine w_nx (pc' := 6) (S' := .int (nI 1) :: _) rfl ?_
  refine w_nx (pc' := 7) rfl ?_
  refine w_put rfl rfl (hT) (by omega) rfl rfl rfl ?_
  refine w_nx (pc' := 11) rfl ?_
  refine w_nx (pc' := 12) rfl ?_
  refine w_nx (pc' := 13) rfl ?_
  refine w_getR rfl rfl (hT) (congrArg va_rf (a4)) rfl ?_
  refine w_nx (pc' := 17) rfl ?_
  refine w_getI rfl rfl (hT) rfl rfl ?_
  refine w_top ((gI_nk (by decide)).trans a5) ?_
  have h1 : isAL (sI z a 0 (gI z a 0 + nI 1)) T a e c ps := ⟨a1, a2, a3, a4, (gI_nk (by decide)).trans a5, a6, a7, a8, a9, a10, a11, a12⟩
  obtain ⟨o, z1, e1, e', c', q1, q2, q3, q4, q5, q6⟩ := j_add2 (d := d) h1 hA hc hp hlp
  subst q1
  refine w_cal (pc' := 23) rfl (a_cv0 rfl rfl rfl (hT) rfl rfl) (e1) ?_
  refine w_nx (pc' := 24) (S' := .int (nI 1) :: _) rfl ?_
  exact w_fin rfl (⟨e', c', rfl, q2, fr_old (fr_sI fun _ => .inl rfl) q3 (fun b _ g => g), q4, q5, q6⟩)
