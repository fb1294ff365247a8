/-! TraceWarden.compile -/
set_option maxRecDepth 100000
def obG (T : Tr) (v l x : Nat) : Prop := obT T true 0 v l (bts x)
noncomputable def bad0 (many : Nat) (G : Nat → Nat → Nat → Prop) (ws : List (List Nat)) (i : Nat) : Bool := @decide (∀ x, ¬ cw many G (ws.getD i []) x) (Classical.propDecidable _)
/-- states, obligations, conditions, where the states go -/
abbrev CM : Type := Nat × Nat × Nat × List (Option Nat)
noncomputable def lkF (many : Nat) (G : Nat → Nat → Nat → Prop) (q : List (List Nat) × List Nat) : Nat → Option Nat := prt (fun i => q.2.getD i 0) q.1.length 1601 (bo (fls (fun i => q.2.getD i 0) q.1.length 41 (bad0 many G q.1)))
noncomputable def aft (many : Nat) (G : Nat → Nat → Nat → Prop) (q : List (List Nat) × List Nat) : CM := ((numP (lkF many G q) fun i => q.2.getD i 0).1.length, many, q.1.length, (numP (lkF many G q) fun i => q.2.getD i 0).2)
noncomputable def cmp (T : Tr) : Option CM := if 9 < wid T true then none else match bfs (eqC (wid T true) (obG T)) 321 [[]] [] with
  | none => none
  | some q => some (aft (wid T true) (obG T) q)
/-- how compile ends -/
def cpQ (tx : List Nat) (rs : List Nat) (e c : Nat) (ps : List Nat) (e1 c1 : Nat) (gs : List Nat) (e2 c2 : Nat) (z : aSt) (k s : Nat) (z' : aSt) : Prop := ∃ (rs' : List Nat) (e' c' : Nat) (ps' : List Nat) (e1' c1' : Nat), CI z' tx rs' e' c' ps' e1' c1' gs e2 c2 ∧ pot rs c ps c1 z rs' c' ps' c1' z' k s
def compQ (tx : List Nat) (rs : List Nat) (e c : Nat) (ps : List Nat) (e1 c1 : Nat) (gs : List Nat) (e2 c2 : Nat) (z : aSt) (o : aRes) (z' : aSt) : Prop := match pW tx with
  | .inl x => ∃ y, o = .inr y ∧ gT z' y = (13, 0) ∧ gI z' 100 13 = nI x ∧ (∀ k, k ≠ 3 → k ≠ 13 → gI z' 100 k = gI z 100 k) ∧ cmR N1 (fun b => b = e2) z z' ∧ cpQ tx rs e c ps e1 c1 gs e2 c2 z 2 12 z'
  | .inr q => match cmp q.1 with
    | none => ∃ y, o = .inr y ∧ gT z' y = (14, 0) ∧ (∀ k, k ≠ 3 → gI z' 100 k = gI z 100 k) ∧ cmR N1 (fun b => b = e2) z z' ∧ cpQ tx rs e c ps e1 c1 gs e2 c2 z 1 6 z'
    | some m => o = .inl (some (.int (nI m.1))) ∧ monR z' m.1 m.2.2.2 ∧ gR z' 345 7 = some 263 ∧ gI z' 345 5 = nI (bitsOf m.1) ∧ gI z' 345 6 = nI 0 ∧ gI z' 100 11 = nI m.2.1 ∧ gI z' 100 12 = nI m.2.2.1 ∧ gI z' 100 15 = -1 ∧ (∀ k, k ≠ 3 → k ≠ 11 → k ≠ 12 → k ≠ 15 → gI z' 100 k = gI z 100 k) ∧ m.2.1 ≤ 9 ∧ m.2.2.1 ≤ 40 ∧ cmR N2 (fun b => b = e2) z z' ∧ cpQ tx rs e c ps e1 c1 gs e2 c2 z 0 0 z'
theorem isRow_congr {z : aSt} {r : Nat} {U V : Nat → Prop} (h : isRow z r U) (e : ∀ x, U x ↔ V x) : isRow z r V := by
  obtain ⟨l, a, b, c⟩ := h
  exact ⟨l, a, b, fun x => (e x).symm.trans (c x)⟩
/-- frames that leave the pools and lists alone -/
theorem CI_fr {F : Nat → Prop} {z z' : aSt} {tx : List Nat} {rs : List Nat} {e c : Nat} {ps : List Nat} {e1 c1 : Nat} {gs : List Nat} {e2 c2 : Nat} (h : CI z tx rs e c ps e1 c1 gs e2 c2) (f : fr F z z') (hF : ∀ b, F b → b = 100 ∨ b = 263 ∨ b = 345 ∨ (257 ≤ b ∧ b ≤ 260) ∨ (266 ≤ b ∧ b < 346 ∧ b % 2 = 0)) (h100 : ∀ k, k ≠ 16 → k ≠ 19 → gR z' 100 k = gR z 100 k) (h263 : ∀ k, gR z' 263 k = gR z 263 k) (h345 : ∀ k, k ≠ 7 → gR z' 345 k = gR z 345 k) (h3 : gI z' 345 3 = gI z 345 3) : CI z' tx rs e c ps e1 c1 gs e2 c2 := by
  obtain ⟨s, b, ⟨n, p⟩, ⟨a, m, r⟩, ⟨gts, g⟩, ⟨ar, ar1, ar2⟩, hd, hl⟩ := h
  have nF : ∀ b, ¬ (b = 100 ∨ b = 263 ∨ b = 345 ∨ (257 ≤ b ∧ b ≤ 260) ∨ (266 ≤ b ∧ b < 346 ∧ b % 2 = 0)) → ¬ F b := fun b h g => h (hF b g)
  have nE : ∀ {e}, arE e → ¬ F e ∨ e = 13 := fun {e} h => h.elim .inr fun h => .inl (nF e (by omega))
  refine ⟨?_, fun i => ?_, ⟨n, pl_fr p f (nF _ (by decide)) (nE ar) (nF _ (by decide)) fun q hq => nF q (by have := (p.2.2.2.2.2.2.2.2 q hq).2.1; omega)⟩, ⟨a, m, stW_fr r f (nF _ (by decide)) (nF _ (by decide)) (nF _ (by decide)) (nE ar1)⟩, ⟨gts, gq_fr g f (nF _ (by decide)) (nE ar2) h3 fun q hq => nF q (by have := (g.2.2.2.2.2.1 q hq).2.2; omega)⟩, ⟨ar, ar1, ar2⟩, hd, hl⟩
  · obtain ⟨w, M, cs, dt, ak, ra⟩ := s
    have t : ∀ b, b < 468 → gT z' b = gT z b := fun b hb => f.2.1 b (twS_lv w hb)
    have k : ∀ b, b < 468 → ¬ F b → ∀ k, gI z' b k = gI z b k ∧ gR z' b k = gR z b k := fun b hb hn k => by
      have := f.2.2 b (twS_lv w hb) hn k
      exact ⟨this.1, this.2.2⟩
    have k104 := k 104 (by decide) (nF _ (by decide))
    refine ⟨twS_of w f.1 t h100 (fun j => (k 256 (by decide) (nF _ (by decide)) j).2), ⟨(t _ (by decide)).trans M.1, (h263 0).trans M.2.1, (t _ (by decide)).trans M.2.2.1, fun i hi => ?_⟩, ?_, ?_, ⟨((k104 6).2).trans ak.1, (t _ (by decide)).trans ak.2.1, fun i hi => ((k 110 (by decide) (nF _ (by decide)) i).2).trans (ak.2.2 i hi)⟩, rowsA_fr ra f w.2.1 fun b hb => nF b (by omega)⟩
    · obtain ⟨a1, a2, a3, a4, a5⟩ := M.2.2.2 i hi
      have k1 := k (265 + 2 * i) (by omega) (nF _ (by omega))
      exact ⟨((k 264 (by decide) (nF _ (by decide)) i).2).trans a1, (t _ (by omega)).trans a2, ((k1 0).1).trans a3, ((k1 1).2).trans a4, (t _ (by omega)).trans a5⟩
    · obtain ⟨c1, c2, c3, c4, c5, c6, c7, c8, c9, c10, c11, c12⟩ := cs
      have k1 := k 346 (by decide) (nF _ (by decide))
      have k2 := k 347 (by decide) (nF _ (by decide))
      exact ⟨(t _ (by decide)).trans c1, (h345 0 (by decide)).trans c2, (h345 1 (by decide)).trans c3, (h345 2 (by decide)).trans c4, (h345 4 (by decide)).trans c5, (t _ (by decide)).trans c6, (t _ (by decide)).trans c7, (t _ (by decide)).trans c8, ((k1 1).2).trans c9, ((k2 1).2).trans c10, ((k1 3).1).trans c11, ((k2 3).1).trans c12⟩
    · obtain ⟨d1, d2, d3, d4, d5, d6, d7, d8, d9, d10, d11, d12⟩ := dt
      exact ⟨(t _ (by decide)).trans d1, Nat.le_trans d2 f.1, ((k104 1).2).trans d3, ((k104 2).2).trans d4, ((k104 3).2).trans d5, ((k104 4).2).trans d6, ((k104 5).2).trans d7, (t _ (by decide)).trans d8, (t _ (by decide)).trans d9, (t _ (by decide)).trans d10, (t _ (by decide)).trans d11, (t _ (by decide)).trans d12⟩
  · rw [(f.2.2 109 (stat_lv s (by decide)) (nF _ (by decide)) i).2.2]
    exact b i
/-- the same frames, for what a compiling writes -/
theorem cm_fr {F X : Nat → Prop} {z z' : aSt} (f : fr F z z') (hF : ∀ b, F b → b = 100 ∨ b = 263 ∨ b = 345 ∨ (257 ≤ b ∧ b ≤ 260) ∨ (266 ≤ b ∧ b < 346 ∧ b % 2 = 0)) (hs : stat z) (h100 : ∀ k, gR z' 100 k = gR z 100 k) (h263 : ∀ k, gR z' 263 k = gR z 263 k) (h345 : ∀ k, k ≠ 7 → gR z' 345 k = gR z 345 k) (h3 : gI z' 345 3 = gI z 345 3) : cmR N2 X z z' := by
  have k : ∀ b, b < 468 → ¬ F b → ∀ k, gI z' b k = gI z b k ∧ gR z' b k = gR z b k := fun b hb hn k => by
    have := f.2.2 b (stat_lv hs hb) hn k
    exact ⟨this.1, this.2.2⟩
  have nF : ∀ b, ¬ (b = 100 ∨ b = 263 ∨ b = 345 ∨ (257 ≤ b ∧ b ≤ 260) ∨ (266 ≤ b ∧ b < 346 ∧ b % 2 = 0)) → ¬ F b := fun b h g => h (hF b g)
  exact ⟨fr_mono f fun b _ g => .inl (by have := hF b g; unfold N2 N1; omega), h100, fun j => (k 101 (by decide) (nF _ (by decide)) j).2, fun j => (k 104 (by decide) (nF _ (by decide)) j).2, h263, h345, h3, (k 101 (by decide) (nF _ (by decide)) 1).1⟩
