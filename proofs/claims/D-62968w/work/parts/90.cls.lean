/-! THE CLASS as a whole: what never changes, what a compiling writes -/
set_option maxRecDepth 100000
theorem isAL_fr3 {F : Nat → Prop} {z z' : aSt} {T a e c : Nat} {ps : List Nat} (h : isAL z T a e c ps) (f : fr F z z') (h1 : ¬ F a) (h2 : ¬ F e ∨ e = 13) : isAL z' T a e c ps := by
  rcases h2 with h2 | h2
  · exact isAL_fr h f h1 h2
  · obtain ⟨a1, a2, a3, a4, a5, a6, a7, a8, a9, a10, a11, a12⟩ := h
    have hc : c = 0 := by omega
    refine ⟨(f.2.1 a a3).trans a1, a2, lv_fr f a3, ((f.2.2 a a3 h1 1).2.2).trans a4, ((f.2.2 a a3 h1 2).1).trans a5, (f.2.1 e a7).trans a6, lv_fr f a7, a8, a9, a10, fun i hi => absurd hi (by omega), fun p hp => ⟨?_, lv_fr f (a12 p hp).2⟩⟩
    rw [f.2.1 p (a12 p hp).2]
    exact (a12 p hp).1
theorem pl_fr {F : Nat → Prop} {z z' : aSt} {n e c : Nat} {rs : List Nat} (h : pl z n rs e c) (f : fr F z z') (h1 : ¬ F 111) (h2 : ¬ F e ∨ e = 13) (h3 : ¬ F 104) (h4 : ∀ r ∈ rs, ¬ F r) : pl z' n rs e c := by
  obtain ⟨a1, a2, a3, a4, a5, a6, a7, a8, a9⟩ := h
  refine ⟨isAL_fr3 a1 f h1 h2, by rw [f.2.1 104 a3]; exact a2, lv_fr f a3, ((f.2.2 104 a3 h3 7).2.2).trans a4, ((f.2.2 104 a3 h3 8).1).trans a5, a6, a7, a8, fun r hr => ?_⟩
  obtain ⟨k1, k2, k3⟩ := a9 r hr
  exact ⟨rowOk_fr2 k1 f (.inl (h4 r hr)) k3, k2, lv_fr f k3⟩
theorem stW_fr {F : Nat → Prop} {z z' : aSt} {tx : List Nat} {a n e c : Nat} {ps : List Nat} (h : stW z tx a n ps e c) (f : fr F z z') (h1 : ¬ F 101) (h2 : ¬ F 102) (h3 : ¬ F 103) (h4 : ¬ F e ∨ e = 13) : stW z' tx a n ps e c := by
  obtain ⟨⟨r1, r2, r3, r4, r5, r6, r7, r8, r9⟩, s2, ⟨p1, p2, p3, p4, p5, p6, p7, p8, p9⟩, s4⟩ := h
  have l102 : lv z 102 := by unfold lv; omega
  have k101 : ∀ k, gI z' 101 k = gI z 101 k ∧ gR z' 101 k = gR z 101 k := fun k => ⟨(f.2.2 101 p3 h1 k).1, (f.2.2 101 p3 h1 k).2.2⟩
  exact ⟨⟨(f.2.1 101 p3).trans r1, ((k101 0).2).trans r2, (f.2.1 102 l102).trans r3, ((k101 1).1).trans r4, r5, fun i hi => ((f.2.2 102 l102 h2 i).1).trans (r6 i hi), r7, ((k101 2).1).trans r8, r9⟩, s2, ⟨isAL_fr3 p1 f h3 h4, (f.2.1 101 p3).trans p2, lv_fr f p3, ((k101 3).2).trans p4, ((k101 4).1).trans p5, p6, p7, p8, fun q hq => okQ_fr (p9 q hq) f⟩, Nat.le_trans s4 f.1⟩
theorem gq_fr {F : Nat → Prop} {z z' : aSt} {gts : List Tr} {e c : Nat} {ps : List Nat} (h : gq z gts ps e c) (f : fr F z z') (h1 : ¬ F 348) (h2 : ¬ F e ∨ e = 13) (h3 : gI z' 345 3 = gI z 345 3) (h4 : ∀ p ∈ ps, ¬ F p) : gq z' gts ps e c := by
  obtain ⟨a1, a2, a3, a4, a5, a6, a7, a8⟩ := h
  refine ⟨isAL_fr3 a1 f h1 h2, h3.trans a2, a3, a4, a5, fun p hp => ⟨(f.2.1 p (a6 p hp).2.1).trans (a6 p hp).1, lv_fr f (a6 p hp).2.1, (a6 p hp).2.2⟩, a7, fun k hk => ?_⟩
  obtain ⟨i, l, r, gl, gh, b1, b2, b3, b4, b5, b6, b7⟩ := a8 k hk
  have hm := get_mem (show k < ps.length by omega)
  have kk := f.2.2 _ (a6 _ hm).2.1 (h4 _ hm)
  exact ⟨i, l, r, gl, gh, b1, b2, ((kk 0).1).trans b3, ((kk 1).2.2).trans b4, ((kk 2).2.2).trans b5, b6, b7⟩
def rowsA (z : aSt) : Prop := (∀ i, i < 72 → rowOk z (112 + 2 * i)) ∧ rowOk z 261 ∧ ∀ i, i < 40 → rowOk z (351 + 2 * i)
def stat (z : aSt) : Prop := twS z ∧ monS z ∧ cirS z ∧ dutT z ∧ (gR z 104 6 = some 110 ∧ gT z 110 = (46, 72) ∧ ∀ i, i < 72 → gR z 110 i = some (112 + 2 * i)) ∧ rowsA z
/-- cells that reading, take and reach write -/
def N1 (b : Nat) : Prop := b = 13 ∨ b = 100 ∨ b = 101 ∨ b = 103 ∨ (104 ≤ b ∧ b < 256 ∧ b ≠ 110) ∨ b = 257 ∨ b = 261 ∨ b = 262 ∨ (351 ≤ b ∧ b < 431)
/-- and the rest of compile -/
def N2 (b : Nat) : Prop := N1 b ∨ b = 258 ∨ b = 259 ∨ b = 260 ∨ b = 263 ∨ (266 ≤ b ∧ b < 346 ∧ b % 2 = 0) ∨ b = 345
def cmF (N X : Nat → Prop) (z : aSt) (b : Nat) : Prop := N b ∨ (468 ≤ b ∧ ((gT z b).1 = 4 ∨ (gT z b).1 = 10 ∨ (gT z b).1 = 40 ∨ (gT z b).1 = 49) ∧ ¬ X b)
def cmR (N X : Nat → Prop) (z z' : aSt) : Prop := fr (cmF N X z) z z' ∧ (∀ k, gR z' 100 k = gR z 100 k) ∧ (∀ k, gR z' 101 k = gR z 101 k) ∧ (∀ k, gR z' 104 k = gR z 104 k) ∧ (∀ k, gR z' 263 k = gR z 263 k) ∧ (∀ k, k ≠ 7 → gR z' 345 k = gR z 345 k) ∧ gI z' 345 3 = gI z 345 3 ∧ gI z' 101 1 = gI z 101 1
theorem cmR_refl {N X : Nat → Prop} (z : aSt) : cmR N X z z := ⟨fr_refl z, fun _ => rfl, fun _ => rfl, fun _ => rfl, fun _ => rfl, fun _ _ => rfl, rfl, rfl⟩
theorem cmR_trans {N X : Nat → Prop} {z z1 z2 : aSt} (h : cmR N X z z1) (g : cmR N X z1 z2) : cmR N X z z2 := by
  obtain ⟨h1, h2, h3, h4, h5, h6, h7, h8⟩ := h
  obtain ⟨g1, g2, g3, g4, g5, g6, g7, g8⟩ := g
  refine ⟨fr_old h1 g1 fun b hb q => ?_, fun k => (g2 k).trans (h2 k), fun k => (g3 k).trans (h3 k), fun k => (g4 k).trans (h4 k), fun k => (g5 k).trans (h5 k), fun k hk => (g6 k hk).trans (h6 k hk), g7.trans h7, g8.trans h8⟩
  rcases q with q | q
  · exact .inl q
  · rw [h1.2.1 b hb] at q
    exact .inr q
theorem cmR_mono {N N' X : Nat → Prop} {z z1 : aSt} (h : cmR N X z z1) (hN : ∀ b, N b → N' b) : cmR N' X z z1 := ⟨fr_mono h.1 fun b _ g => g.elim (fun g => .inl (hN b g)) .inr, h.2⟩
theorem N2_lt {b : Nat} (h : N2 b) : b < 468 := by unfold N2 N1 at h; omega
theorem N1_lt {b : Nat} (h : N1 b) : b < 468 := N2_lt (.inl h)
theorem stat_lv {z : aSt} (h : stat z) {b : Nat} (hb : b < 468) : lv z b := twS_lv h.1 hb
theorem cmF_off {N X : Nat → Prop} {z : aSt} {b : Nat} (hb : b < 468) (h : ¬ N b) : ¬ cmF N X z b := fun g => g.elim h fun g => by omega
theorem stat_cm {X : Nat → Prop} {z z' : aSt} (h : stat z) (f : cmR N2 X z z') (hr : rowsA z') : stat z' := by
  obtain ⟨w, m, cs, dt, ak, _⟩ := h
  obtain ⟨f1, f2, f3, f4, f5, f6, f7, f8⟩ := f
  have t : ∀ b, b < 468 → gT z' b = gT z b := fun b hb => f1.2.1 b (twS_lv w hb)
  have k : ∀ b, b < 468 → ¬ N2 b → ∀ k, gI z' b k = gI z b k ∧ gR z' b k = gR z b k := fun b hb hn k => by
    have := f1.2.2 b (twS_lv w hb) (cmF_off hb hn) k
    exact ⟨this.1, this.2.2⟩
  refine ⟨twS_of w f1.1 t (fun j _ _ => f2 j) (fun j => (k 256 (by decide) (by unfold N2 N1; omega) j).2), ⟨(t _ (by decide)).trans m.1, (f5 0).trans m.2.1, (t _ (by decide)).trans m.2.2.1, fun i hi => ?_⟩, ?_, ?_, ⟨(f4 6).trans ak.1, (t _ (by decide)).trans ak.2.1, fun i hi => ((k 110 (by decide) (by unfold N2 N1; omega) i).2).trans (ak.2.2 i hi)⟩, hr⟩
  · obtain ⟨a1, a2, a3, a4, a5⟩ := m.2.2.2 i hi
    have k1 := k (265 + 2 * i) (by omega) (by unfold N2 N1; omega)
    exact ⟨((k 264 (by decide) (by unfold N2 N1; omega) i).2).trans a1, (t _ (by omega)).trans a2, ((k1 0).1).trans a3, ((k1 1).2).trans a4, (t _ (by omega)).trans a5⟩
  · obtain ⟨c1, c2, c3, c4, c5, c6, c7, c8, c9, c10, c11, c12⟩ := cs
    have k1 := k 346 (by decide) (by unfold N2 N1; omega)
    have k2 := k 347 (by decide) (by unfold N2 N1; omega)
    exact ⟨(t _ (by decide)).trans c1, (f6 0 (by decide)).trans c2, (f6 1 (by decide)).trans c3, (f6 2 (by decide)).trans c4, (f6 4 (by decide)).trans c5, (t _ (by decide)).trans c6, (t _ (by decide)).trans c7, (t _ (by decide)).trans c8, ((k1 1).2).trans c9, ((k2 1).2).trans c10, ((k1 3).1).trans c11, ((k2 3).1).trans c12⟩
  · obtain ⟨d1, d2, d3, d4, d5, d6, d7, d8, d9, d10, d11, d12⟩ := dt
    exact ⟨(t _ (by decide)).trans d1, Nat.le_trans d2 f1.1, (f4 1).trans d3, (f4 2).trans d4, (f4 3).trans d5, (f4 4).trans d6, (f4 5).trans d7, (t _ (by decide)).trans d8, (t _ (by decide)).trans d9, (t _ (by decide)).trans d10, (t _ (by decide)).trans d11, (t _ (by decide)).trans d12⟩
/-- rows of which no cell is written stay -/
theorem rowsA_fr {F : Nat → Prop} {z z' : aSt} (h : rowsA z) (f : fr F z z') (hz : 368 ≤ gZ z) (hF : ∀ b, (112 ≤ b ∧ b < 256) ∨ b = 261 ∨ (351 ≤ b ∧ b < 431) → ¬ F b) : rowsA z' := by
  have l : ∀ b, b < 468 → lv z b := fun b hb => by unfold lv; omega
  exact ⟨fun i hi => rowOk_fr2 (h.1 i hi) f (.inl (hF _ (by omega))) (l _ (by omega)), rowOk_fr2 h.2.1 f (.inl (hF _ (by omega))) (l _ (by decide)), fun i hi => rowOk_fr2 (h.2.2 i hi) f (.inl (hF _ (by omega))) (l _ (by omega))⟩
/-- where a list's array lies -/
def arE (e : Nat) : Prop := e = 13 ∨ 468 ≤ e
/-- the class, ready for any call -/
def CI (z : aSt) (tx : List Nat) (rs : List Nat) (e c : Nat) (ps : List Nat) (e1 c1 : Nat) (gs : List Nat) (e2 c2 : Nat) : Prop := stat z ∧ bhd z ∧ (∃ n, pl z n rs e c) ∧ (∃ a n, stW z tx a n ps e1 c1) ∧ (∃ gts, gq z gts gs e2 c2) ∧ (arE e ∧ arE e1 ∧ arE e2) ∧ ((e = e1 → e = 13) ∧ (e = e2 → e = 13) ∧ (e1 = e2 → e1 = 13)) ∧ rs.length ≤ 640 ∧ ps.length ≤ 41
def pot (rs : List Nat) (c : Nat) (ps : List Nat) (c1 : Nat) (z : aSt) (rs' : List Nat) (c' : Nat) (ps' : List Nat) (c1' : Nat) (z' : aSt) (k s : Nat) : Prop := gZ z' + 3 * rs.length + 2 * ps.length ≤ gZ z + 3 * rs'.length + 2 * ps'.length + k ∧ gS z' + 4 * c + 130 * rs.length + 4 * c1 + 8 * ps.length ≤ gS z + 4 * c' + 130 * rs'.length + 4 * c1' + 8 * ps'.length + s
theorem gq_cm {X : Nat → Prop} {z z' : aSt} {gts : List Tr} {e c : Nat} {ps : List Nat} (h : gq z gts ps e c) (f : cmR N2 X z z') (he : arE e) (hX : X e) : gq z' gts ps e c := by
  refine gq_fr h f.1 (cmF_off (by decide) (by unfold N2 N1; omega)) ?_ f.2.2.2.2.2.2.1 fun p hp => ?_
  · rcases he with he | he
    · exact .inr he
    · exact .inl fun g => g.elim (fun g => by have := N2_lt g; omega) fun g => g.2.2 hX
  · have := h.2.2.2.2.2.1 p hp
    rintro (g | g)
    · have := N2_lt g; omega
    · rw [this.1] at g
      rcases g.2.1 with g | g | g | g <;> cases g
/-- reading -/
theorem cm_rR {n n' m : Nat} {z z' : aSt} {ps ps' : List Nat} {e c e' c' : Nat} {X : Nat → Prop} (hs : stat z) (h : rR n z ps e c z' n' ps' e' c') (hp : pq z m ps e c) (he : arE e) (hX : X e → e = 13) (hX2 : ∀ b, X b → gT z b = (49, (gT z b).2)) : cmR N1 X z z' := by
  obtain ⟨a0, a1, a2, a3, a4, a5, a6, a7, a8⟩ := h
  have off : ∀ b, b < 468 → b ≠ 101 → b ≠ 103 → b ≠ e → ¬ rdF n ps e b := fun b hb h1 h2 h3 => by
    rintro (g | g | g | ⟨i, g1, g2, g3, g4⟩)
    · exact h1 g
    · exact h2 g
    · exact h3 g
    · have := (hp.2.2.2.2.2.2.2.2 _ (get_mem g3)).2.2
      omega
  have ne : ∀ b, 100 ≤ b → b < 468 → b ≠ e := fun b h1 h2 g => by rcases he with q | q <;> omega
  have k : ∀ b, 100 ≤ b → b < 468 → b ≠ 101 → b ≠ 103 → ∀ k, gI z' b k = gI z b k ∧ gR z' b k = gR z b k := fun b h0 hb h1 h2 k => by
    have := a1.2.2 b (stat_lv hs hb) (off b hb h1 h2 (ne b h0 hb)) k
    exact ⟨this.1, this.2.2⟩
  refine ⟨fr_mono a1 fun b _ g => ?_, fun j => (k 100 (by decide) (by decide) (by decide) (by decide) j).2, a2, fun j => (k 104 (by decide) (by decide) (by decide) (by decide) j).2, fun j => (k 263 (by decide) (by decide) (by decide) (by decide) j).2, fun j _ => (k 345 (by decide) (by decide) (by decide) (by decide) j).2, (k 345 (by decide) (by decide) (by decide) (by decide) 3).1, a3 1 (by decide) (by decide)⟩
  rcases g with g | g | g | ⟨i, g1, g2, g3, g4⟩
  · exact .inl (by unfold N1; omega)
  · exact .inl (by unfold N1; omega)
  · rcases he with q | q
    · exact .inl (by unfold N1; omega)
    · rw [g]
      exact .inr ⟨q, .inr (.inr (.inr (by rw [hp.1.2.2.2.2.2.1]))), fun x => by have := hX x; omega⟩
  · have ho := hp.2.2.2.2.2.2.2.2 _ (get_mem g3)
    rw [g4] at ho
    exact .inr ⟨ho.2.2, .inr (.inl (by rw [ho.1])), fun x => by have := hX2 b x; rw [ho.1] at this; cases this⟩
/-- walk -/
theorem cm_frW {z z' : aSt} {qs : List Nat} {X : Nat → Prop} (hs : stat z) (f : frW qs z z') (hq : ∀ b, b ∈ qs → okQ z b) (hX2 : ∀ b, X b → gT z b = (49, (gT z b).2)) : cmR N1 X z z' := by
  have off : ∀ b, b < 468 → ¬ (104 ≤ b ∧ b ≤ 109) → ¬ ((104 ≤ b ∧ b ≤ 109) ∨ b ∈ qs) := fun b hb h g => g.elim h fun g => by have := (hq b g).2.2; omega
  have k : ∀ b, b < 468 → ¬ (104 ≤ b ∧ b ≤ 109) → ∀ k, gI z' b k = gI z b k ∧ gR z' b k = gR z b k := fun b hb h k => by
    have := f.1.2.2 b (stat_lv hs hb) (off b hb h) k
    exact ⟨this.1, this.2.2⟩
  refine ⟨fr_mono f.1 fun b _ g => ?_, fun j => (k 100 (by decide) (by decide) j).2, fun j => (k 101 (by decide) (by decide) j).2, f.2.1, fun j => (k 263 (by decide) (by decide) j).2, fun j _ => (k 345 (by decide) (by decide) j).2, (k 345 (by decide) (by decide) 3).1, (k 101 (by decide) (by decide) 1).1⟩
  rcases g with g | g
  · exact .inl (by unfold N1; omega)
  · have ho := hq b g
    exact .inr ⟨ho.2.2, .inr (.inl (by rw [ho.1])), fun x => by have := hX2 b x; rw [ho.1] at this; cases this⟩
/-- work with rows -/
theorem cm_pR {n : Nat} {Y X : Nat → Prop} {z z' : aSt} {rs rs' : List Nat} {e c e' c' m : Nat} (hs : stat z) (f : pR n Y z rs e c z' rs' e' c') (hp : pl z m rs e c) (he : arE e) (hX : X e → e = 13) (hX2 : ∀ b, X b → gT z b = (49, (gT z b).2)) (hY : ∀ b, Y b → N1 b ∧ b ≠ 101) (h100 : ∀ k, gR z' 100 k = gR z 100 k) : cmR N1 X z z' := by
  obtain ⟨a1, a2, a3, a4, a5⟩ := f
  have ne : ∀ b, 100 ≤ b → b < 468 → b ≠ e := fun b h1 h2 g => by rcases he with q | q <;> omega
  have off : ∀ b, 100 ≤ b → b < 468 → b ≠ 104 → b ≠ 111 → ¬ Y b → ¬ (b = 104 ∨ plF n rs e b ∨ Y b) := fun b h0 hb h1 h2 h3 => by
    rintro (g | (g | g | ⟨i, g1, g2, g3⟩) | g)
    · exact h1 g
    · exact h2 g
    · exact ne b h0 hb g
    · have := (hp.2.2.2.2.2.2.2.2 _ (get_mem g2)).2.1
      rcases g3 with g3 | g3 <;> omega
    · exact h3 g
  have k : ∀ b, 100 ≤ b → b < 468 → b ≠ 104 → b ≠ 111 → ¬ Y b → ∀ k, gI z' b k = gI z b k ∧ gR z' b k = gR z b k := fun b h0 hb h1 h2 h3 k => by
    have := a1.2.2 b (stat_lv hs hb) (off b h0 hb h1 h2 h3) k
    exact ⟨this.1, this.2.2⟩
  have y : ∀ b, b = 101 ∨ b = 263 ∨ b = 345 → ¬ Y b := fun b hb hy => by
    have := hY b hy
    unfold N1 at this
    omega
  refine ⟨fr_mono a1 fun b _ g => ?_, h100, fun j => (k 101 (by decide) (by decide) (by decide) (by decide) (y _ (by decide)) j).2, a2.1, fun j => (k 263 (by decide) (by decide) (by decide) (by decide) (y _ (by decide)) j).2, fun j _ => (k 345 (by decide) (by decide) (by decide) (by decide) (y _ (by decide)) j).2, (k 345 (by decide) (by decide) (by decide) (by decide) (y _ (by decide)) 3).1, (k 101 (by decide) (by decide) (by decide) (by decide) (y _ (by decide)) 1).1⟩
  rcases g with g | (g | g | ⟨i, g1, g2, g3⟩) | g
  · exact .inl (by unfold N1; omega)
  · exact .inl (by unfold N1; omega)
  · rcases he with q | q
    · exact .inl (by unfold N1; omega)
    · rw [g]
      exact .inr ⟨q, .inr (.inr (.inr (by rw [hp.1.2.2.2.2.2.1]))), fun x => by have := hX x; omega⟩
  · have ho := hp.2.2.2.2.2.2.2.2 _ (get_mem g2)
    rcases g3 with g3 | g3
    · rw [g3]
      exact .inr ⟨ho.2.1, .inl (by rw [ho.1.1]), fun x => by have := hX2 _ x; rw [ho.1.1] at this; cases this⟩
    · rw [g3]
      exact .inr ⟨by omega, .inr (.inr (.inl (by rw [ho.1.2.2.1]))), fun x => by have := hX2 _ x; rw [ho.1.2.2.1] at this; cases this⟩
  · exact .inl (hY b g).1
