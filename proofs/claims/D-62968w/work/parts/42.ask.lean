/-! What a property asks -/
set_option maxRecDepth 100000
/-- by its kind; A: of the properties below -/
def askK (z0 : aSt) (A : Nat → Nat → Nat → Prop) : Nat → Nat → Nat → Nat → Prop
  | 0, p, l, _ => (vI z0 p 3).testBit l = true
  | 1, p, l, x => A (vR z0 p 1) l x ∧ sb (2 ^ vI z0 p 6) x
  | 2, p, _, x => sb (2 ^ vI z0 (vR z0 p 1) 6) x
  | 3, p, l, x => ∀ k, k < vI z0 104 0 → (vI z0 p 7).testBit k = true → plcP z0 A k l x
  | 4, p, l, x => ∀ k, k < vI z0 104 0 → (vI z0 p 7).testBit k = true → plcP z0 A k l x
  | 5, p, l, x => A (vR z0 p 1) l x ∧ A (vR z0 p 2) l x
  | 6, p, l, x => A (vR z0 p 1) l x ∨ A (vR z0 p 2) l x
  | _, p, l, x => A (vR z0 p 2) l x ∨ A (vR z0 p 1) l x ∧ sb (2 ^ vI z0 p 6) x
def askP (z0 : aSt) : Nat → Nat → Nat → Nat → Prop
  | 0 => fun _ _ _ => False
  | m + 1 => fun p l x => askK z0 (askP z0 m) (vR z0 p 0) p l x
def wfQ (z0 : aSt) (W : Nat → Prop) (p : Nat) : Prop := okP z0 p ∧ gR z0 p 0 = some (vR z0 p 0) ∧
  (vR z0 p 0 = 0 ∧ vI z0 p 3 < 256 ∨
   vR z0 p 0 = 2 ∧ gR z0 p 1 = some (vR z0 p 1) ∧ okP z0 (vR z0 p 1) ∧ vI z0 (vR z0 p 1) 6 < 9 ∨
   vR z0 p 0 = 1 ∧ gR z0 p 1 = some (vR z0 p 1) ∧ W (vR z0 p 1) ∧ vI z0 p 6 < 9 ∨
   (vR z0 p 0 = 3 ∨ vR z0 p 0 = 4) ∧ vI z0 p 7 < 512 ∧ (∀ k, k < vI z0 104 0 → (vI z0 p 7).testBit k = true → wfK z0 W k) ∨
   vR z0 p 0 = 7 ∧ gR z0 p 1 = some (vR z0 p 1) ∧ W (vR z0 p 1) ∧ gR z0 p 2 = some (vR z0 p 2) ∧ W (vR z0 p 2) ∧ vI z0 p 6 < 9 ∨
   (vR z0 p 0 = 5 ∨ vR z0 p 0 = 6) ∧ gR z0 p 1 = some (vR z0 p 1) ∧ W (vR z0 p 1) ∧ gR z0 p 2 = some (vR z0 p 2) ∧ W (vR z0 p 2))
def wfP (z0 : aSt) : Nat → Nat → Prop
  | 0 => fun _ => False
  | m + 1 => wfQ z0 (wfP z0 m)
theorem a_cmp_lt {a b : Nat} (ha : a < 13) (hb : b < 13) : a_cmp (some a) (some b) = true := by
  unfold a_cmp
  have h1 : Nat.blt a 13 = true := Nat.ble_eq.mpr ha
  have h2 : Nat.blt b 13 = true := Nat.ble_eq.mpr hb
  simp only [h1, h2, Bool.and_self, Bool.or_true]
/-- a state of such work: j rows lent, first n -/
def pSt (n : Nat) (rs : List Nat) (e c : Nat) (z : aSt) (into j M : Nat) (z' : aSt) (rs' : List Nat) (e' c' : Nat) : Prop := pl z' j rs' e' c' ∧ pR n (rF into) z rs e c z' rs' e' c' ∧ rs'.length ≤ M ∧ rowOk z' into
/-- rows that stay when T is written -/
def pKp (j T : Nat) (z : aSt) (rs : List Nat) (z' : aSt) (rs' : List Nat) : Prop := (∀ r U, isRow z r U → r ≠ T → lv z (r + 1) → (∀ i, j ≤ i → i < rs.length → rs.getD i 0 ≠ r) → isRow z' r U) ∧ rs.length ≤ rs'.length ∧ ∀ i, i < rs.length → rs'.getD i 0 = rs.getD i 0
section ASK
variable {z0 : aSt} {n j M : Nat} {rs : List Nat} {e c : Nat} {z : aSt} {into : Nat} {z1 : aSt} {rs1 : List Nat} {e1 c1 : Nat}
theorem st_row {z2 : aSt} {T : Nat} (h : pSt n rs e c z into j M z1 rs1 e1 c1) (f : frI (rF T) z1 z2) (hT : rowOk z1 T) (ht : (∃ i, n ≤ i ∧ i < rs1.length ∧ rs1.getD i 0 = T) ∨ T = into) : pSt n rs e c z into j M z2 rs1 e1 c1 ∧ pKp j T z1 rs1 z2 rs1 := by
  obtain ⟨h1, h2, h3, h4⟩ := h
  refine ⟨⟨pl_row h1 f hT, pR_trans h2 (pR_row f ?_ (rF_104 hT h1.2.1)), h3, rowOk_fr h4 f⟩, fun r U hr hne _ _ => isRow_fr hr f (rF_off (isRow_ok hr) hT hne).1 (rF_off (isRow_ok hr) hT hne).2, Nat.le_refl _, fun _ _ => rfl⟩
  rcases ht with g | g
  · exact .inl g
  · exact .inr fun b hb => g ▸ hb
theorem st_lend {d : Nat} (h : pSt n rs e c z into j M z1 rs1 e1 c1) (hnj : n ≤ j) (hj : j + 1 ≤ M) (hj2 : j ≤ 900) (hZ : 368 ≤ gZ z1) (hlv : lv z1 (into + 1)) (hoff : ∀ i, j ≤ i → i < rs1.length → rs1.getD i 0 ≠ into) : aW (d + 7) 61 [.ref 104] z1 (fun o z2 => ∃ (rs2 : List Nat) (e2 c2 : Nat), o = .inl (some (.ref (rs2.getD j 0))) ∧ pSt n rs e c z into (j + 1) M z2 rs2 e2 c2 ∧ (∀ r U, isRow z1 r U → lv z1 (r + 1) → (∀ i, j ≤ i → i < rs1.length → rs1.getD i 0 ≠ r) → isRow z2 r U) ∧ j < rs2.length ∧ rs1.length ≤ rs2.length ∧ ∀ i, i < rs1.length → rs2.getD i 0 = rs1.getD i 0) := by
  obtain ⟨h1, h2, h3, h4⟩ := h
  refine (x_lendR (d := d) (fun _ => False) h1 hj2 hZ).imp ?_
  rintro o z2 ⟨rs2, e2, c2, q1, q2, q3, q4⟩
  have l := len_pR q3
  refine ⟨rs2, e2, c2, q1, ⟨q2, pR_trans h2 (pR_mono q3 hnj fun b g => g.elim), by omega, ?_⟩, fun r U hr hl ho => pR_keep h1 q3 hr hl (fun _ _ g => g) ho, by have := q2.2.2.2.2.2.1; omega, l.1, l.2⟩
  refine rowOk_fr2 h4 q3.1 (.inl ?_) hlv
  rintro (g | (g | g | ⟨i, g1, g2, g3⟩) | g)
  · exact rF_104 h4 h1.2.1 (.inl g.symm)
  · have a := h4.1; rw [g, h1.1.1] at a; cases a
  · have a := h4.1; rw [g, h1.1.2.2.2.2.2.1] at a; cases a
  · exact (rF_off h4 (h1.2.2.2.2.2.2.2.2 _ (get_mem g2)).1 (Ne.symm (hoff i g1 g2))).1 g3
  · exact g
/-- a call that makes the row T -/
theorem st_call {B T : Nat} {U : Nat → Prop} {o : aRes} {z2 : aSt} (h : pSt n rs e c z into j M z1 rs1 e1 c1) (hnj : n ≤ j) (hM : j + B ≤ M) (hT : rowOk z1 T) (ht : (∃ i, n ≤ i ∧ i < rs1.length ∧ rs1.getD i 0 = T) ∨ T = into) (hlv : lv z1 (into + 1)) (hoff : ∀ i, j ≤ i → i < rs1.length → rs1.getD i 0 ≠ into) (q : pQ j rs1 e1 c1 z1 T (j + B) U o z2) : o = .inl none ∧ ∃ (rs2 : List Nat) (e2 c2 : Nat), pSt n rs e c z into j M z2 rs2 e2 c2 ∧ isRow z2 T U ∧ pKp j T z1 rs1 z2 rs2 := by
  obtain ⟨h1, h2, h3, h4⟩ := h
  obtain ⟨q1, rs2, e2, c2, q2, q3, q4, q5⟩ := q
  have l := len_pR q3
  have kp : ∀ r U, isRow z1 r U → r ≠ T → lv z1 (r + 1) → (∀ i, j ≤ i → i < rs1.length → rs1.getD i 0 ≠ r) → isRow z2 r U := fun r U hr hne hl ho => pR_keep h1 q3 hr hl (rF_dis (isRow_ok hr) hT hne) ho
  refine ⟨q1, rs2, e2, c2, ⟨q2, pR_trans h2 (pR_mono q3 hnj fun b g => ?_), by omega, ?_⟩, q5, kp, l.1, l.2⟩
  · rcases ht with ⟨i, g1, g2, g3⟩ | g3
    · exact .inr (.inr (.inr ⟨i, g1, g2, by rw [g3]; exact g⟩))
    · exact .inl (g3 ▸ g)
  · by_cases hi : T = into
    · rw [← hi]; exact isRow_ok q5
    · refine rowOk_fr2 h4 q3.1 (.inl ?_) hlv
      rintro (g | (g | g | ⟨i, g1, g2, g3⟩) | g)
      · exact rF_104 h4 h1.2.1 (.inl g.symm)
      · have a := h4.1; rw [g, h1.1.1] at a; cases a
      · have a := h4.1; rw [g, h1.1.2.2.2.2.2.1] at a; cases a
      · exact (rF_off h4 (h1.2.2.2.2.2.2.2.2 _ (get_mem g2)).1 (Ne.symm (hoff i g1 g2))).1 g3
      · exact rF_dis h4 hT (Ne.symm hi) into (.inl rfl) g
theorem st_off (h : pSt n rs e c z into j M z1 rs1 e1 c1) (hlv : lv z (into + 1)) (hoff : ∀ i, n ≤ i → i < rs.length → rs.getD i 0 ≠ into) : lv z1 (into + 1) ∧ ∀ i, n ≤ i → i < rs1.length → rs1.getD i 0 ≠ into := ⟨lv_pR h.2.1 hlv, pR_off h.2.1 (Nat.lt_of_succ_lt hlv) hoff⟩
theorem st_agr (h : pSt n rs e c z into j M z1 rs1 e1 c1) (hA : agr z0 z) (hp : pl z n rs e c) (hr : rowOk z into) : agr z0 z1 := agr_pR hA hp h.2.1 (fun b _ g => rF_tag hr g)
theorem st_get {i : Nat} (h : pSt n rs e c z into j M z1 rs1 e1 c1) (hi : i < rs1.length) : rowOk z1 (rs1.getD i 0) ∧ lv z1 (rs1.getD i 0 + 1) := ⟨(h.1.2.2.2.2.2.2.2.2 _ (get_mem hi)).1, (h.1.2.2.2.2.2.2.2.2 _ (get_mem hi)).2.2⟩
theorem st_nd {i k : Nat} (h : pSt n rs e c z into j M z1 rs1 e1 c1) (hi : i < rs1.length) (hk : k < rs1.length) (hne : i ≠ k) : rs1.getD i 0 ≠ rs1.getD k 0 := nd_get h.1.2.2.2.2.2.2.2.1 hi hk hne
end ASK
