/-! Duties.walk: what it makes -/
set_option maxRecDepth 100000
/-- Parts keep their shape: all but own and first -/
def shp (z z' : aSt) : Prop := ∀ b, okQ z b → okQ z' b ∧ (∀ k, gR z' b k = gR z b k) ∧ ∀ k, k ≠ 6 → k ≠ 7 → gI z' b k = gI z b k
theorem shp_refl (z : aSt) : shp z z := fun _ h => ⟨h, fun _ => rfl, fun _ _ _ => rfl⟩
theorem shp_trans {z z1 z2 : aSt} (h : shp z z1) (g : shp z1 z2) : shp z z2 := fun b hb => ⟨(g b (h b hb).1).1, fun k => ((g b (h b hb).1).2.1 k).trans ((h b hb).2.1 k), fun k h6 h7 => ((g b (h b hb).1).2.2 k h6 h7).trans ((h b hb).2.2 k h6 h7)⟩
theorem repS_shp {z z' : aSt} (f : shp z z') : ∀ (T : Tr) (s : Nat), repS z T s → repS z' T s
  | .leaf, _, h => h
  | .inner k a b l r, s, h => by
    have ihl := repS_shp f l
    have ihr := repS_shp f r
    rcases h with ⟨h1, h2, h3, h4⟩ | ⟨h1, h2, h3, ⟨x, h4, h5⟩, ⟨y, h6, h7⟩⟩ | ⟨h1, h2, h3, ⟨x, h4, h5⟩, ⟨y, h6, h7⟩⟩ | ⟨h1, h2, h3, ⟨x, h4, h5⟩, h6, h7, h8⟩ | ⟨h1, h2, h3, ⟨x, h4, h5⟩⟩ | ⟨h1, h2⟩
    · exact .inl ⟨h1, (f s h2).1, ((f s h2).2.1 0).trans h3, ((f s h2).2.2 3 (by decide) (by decide)).trans h4⟩
    · exact .inr (.inl ⟨h1, (f s h2).1, ((f s h2).2.1 0).trans h3, ⟨x, ((f s h2).2.1 1).trans h4, ihl x h5⟩, ⟨y, ((f s h2).2.1 2).trans h6, ihr y h7⟩⟩)
    · exact .inr (.inr (.inl ⟨h1, (f s h2).1, ((f s h2).2.1 0).trans h3, ⟨x, ((f s h2).2.1 1).trans h4, ihl x h5⟩, ⟨y, ((f s h2).2.1 2).trans h6, ihr y h7⟩⟩))
    · exact .inr (.inr (.inr (.inl ⟨h1, (f s h2).1, ((f s h2).2.1 0).trans h3, ⟨x, ((f s h2).2.1 1).trans h4, ihl x h5⟩, ((f s h2).2.2 4 (by decide) (by decide)).trans h6, ((f s h2).2.2 5 (by decide) (by decide)).trans h7, h8⟩)))
    · exact .inr (.inr (.inr (.inr (.inl ⟨h1, (f s h2).1, ((f s h2).2.1 0).trans h3, ⟨x, ((f s h2).2.1 1).trans h4, ihl x h5⟩⟩))))
    · exact .inr (.inr (.inr (.inr (.inr ⟨h1, ihl s h2⟩))))
/-- Part p is the property T -/
def repP (z : aSt) : Tr → Nat → Prop
  | .leaf, _ => False
  | .inner k _ _ l r, p => okQ z p ∧ gR z p 0 = some k ∧ (k = 0 ∧ gI z p 3 = nI (bm l) ∨
    (k = 1 ∨ k = 2) ∧ gR z p 1 = some (vR z p 1) ∧ repP z l (vR z p 1) ∨
    (k = 3 ∨ k = 4) ∧ gR z p 1 = some (vR z p 1) ∧ repS z l (vR z p 1) ∧ gR z p 2 = some (vR z p 2) ∧ repP z r (vR z p 2) ∨
    (k = 5 ∨ k = 6 ∨ k = 7) ∧ gR z p 1 = some (vR z p 1) ∧ repP z l (vR z p 1) ∧ gR z p 2 = some (vR z p 2) ∧ repP z r (vR z p 2))
theorem vR_shp {z z' : aSt} (f : shp z z') {b : Nat} (h : okQ z b) (k : Nat) : vR z' b k = vR z b k := by
  unfold vR
  rw [(f b h).2.1 k]
theorem repP_shp {z z' : aSt} (f : shp z z') : ∀ (T : Tr) (p : Nat), repP z T p → repP z' T p
  | .leaf, _, h => h
  | .inner k a b l r, p, ⟨h2, h3, h⟩ => by
    have ihl := repP_shp f l
    have ihr := repP_shp f r
    have v := vR_shp f h2
    refine ⟨(f p h2).1, ((f p h2).2.1 0).trans h3, ?_⟩
    rw [v 1, v 2, (f p h2).2.1 1, (f p h2).2.1 2]
    rcases h with ⟨h1, h4⟩ | ⟨h1, h4, h5⟩ | ⟨h1, h4, h5, h6, h7⟩ | ⟨h1, h4, h5, h6, h7⟩
    · exact .inl ⟨h1, ((f p h2).2.2 3 (by decide) (by decide)).trans h4⟩
    · exact .inr (.inl ⟨h1, h4, ihl _ h5⟩)
    · exact .inr (.inr (.inl ⟨h1, h4, repS_shp f l _ h5, h6, ihr _ h7⟩))
    · exact .inr (.inr (.inr ⟨h1, h4, ihl _ h5, h6, ihr _ h7⟩))
/-- the Parts that are properties -/
def pts (z : aSt) : Tr → Nat → List Nat
  | .leaf, _ => []
  | .inner k _ _ l r, p => p :: (if k = 0 then [] else if k = 1 ∨ k = 2 then pts z l (vR z p 1) else if k = 3 ∨ k = 4 then pts z r (vR z p 2) else pts z l (vR z p 1) ++ pts z r (vR z p 2))
theorem pts_shp {z z' : aSt} (f : shp z z') : ∀ (T : Tr) (p : Nat), repP z T p → pts z' T p = pts z T p
  | .leaf, _, _ => rfl
  | .inner k a b l r, p, ⟨h2, h3, h⟩ => by
    have v := vR_shp f h2
    unfold pts
    rw [v 1, v 2]
    rcases h with ⟨h1, h4⟩ | ⟨h1, h4, h5⟩ | ⟨h1, h4, h5, h6, h7⟩ | ⟨h1, h4, h5, h6, h7⟩
    · rw [if_pos h1, if_pos h1]
    · rw [pts_shp f l _ h5]
      simp only [if_pos h1]
    · rw [pts_shp f r _ h7]
      have : ¬ k = 0 ∧ ¬ (k = 1 ∨ k = 2) := by omega
      rw [if_neg this.1, if_neg this.2, if_pos h1, if_neg this.1, if_neg this.2, if_pos h1]
    · rw [pts_shp f l _ h5, pts_shp f r _ h7]
/-- is it an obligation itself -/
def owns (due : Bool) (k : Nat) : Nat := if due = true ∨ k = 1 ∨ k = 7 then 1 else 0
/-- how many obligations it has -/
def wid : Tr → Bool → Nat
  | .leaf, _ => 0
  | .inner k _ _ l r, due => owns due k + (if k = 0 then 0 else if k = 1 then wid l false else if k = 2 then wid l true else if k = 3 then (sfo (sq l)).length + wid r false else if k = 4 then (sfo (sq l)).length + wid r true else wid l false + wid r false)
/-- the places of a sequence, with their ends -/
def plcAt (z : aSt) (k : Nat) (r : SQ) (q : Nat) : Prop := ∀ i, i < (sfo r).length → ent z (k + i) = (nI ((sms r).getD i 0), nI ((sfo r).getD i 0 * 2 ^ k), (if (sLa r).testBit i = true then 1 else 0), some q, none)
/-- obligations of T (Part p) are numbered from k on -/
def numC (z : aSt) : Tr → Nat → Bool → Nat → Prop
  | .leaf, _, _, _ => True
  | .inner n _ _ l r, p, due, k => (owns due n = 1 → gI z p 6 = nI k ∧ gR z 105 k = some p) ∧
    (if n = 0 then True else if n = 1 then numC z l (vR z p 1) false (k + owns due n) else if n = 2 then numC z l (vR z p 1) true (k + owns due n)
     else if n = 3 then gI z p 7 = nI (sFi (sq l) * 2 ^ (k + owns due n)) ∧ plcAt z (k + owns due n) (sq l) p ∧ numC z r (vR z p 2) false (k + owns due n + (sfo (sq l)).length)
     else if n = 4 then gI z p 7 = nI (sFi (sq l) * 2 ^ (k + owns due n)) ∧ plcAt z (k + owns due n) (sq l) p ∧ numC z r (vR z p 2) true (k + owns due n + (sfo (sq l)).length)
     else numC z l (vR z p 1) false (k + owns due n) ∧ numC z r (vR z p 2) false (k + owns due n + wid l false))
/-- what walk writes -/
def frW (ps : List Nat) (z z' : aSt) : Prop := fr (fun b => (104 ≤ b ∧ b ≤ 109) ∨ b ∈ ps) z z' ∧ (∀ k, gR z' 104 k = gR z 104 k) ∧ (∀ k, k ≠ 0 → gI z' 104 k = gI z 104 k) ∧ shp z z' ∧ ∀ i, gR z' 109 i = gR z 109 i ∨ ∃ b, 468 ≤ b ∧ gR z' 109 i = some b
theorem frW_trans {ps : List Nat} {z z1 z2 : aSt} (h : frW ps z z1) (g : frW ps z1 z2) : frW ps z z2 := ⟨fr_trans h.1 g.1, fun k => (g.2.1 k).trans (h.2.1 k), fun k hk => (g.2.2.1 k hk).trans (h.2.2.1 k hk), shp_trans h.2.2.2.1 g.2.2.2.1, fun i => (g.2.2.2.2 i).elim (fun e => (h.2.2.2.2 i).elim (fun e' => .inl (e.trans e')) fun ⟨b, h1, h2⟩ => .inr ⟨b, h1, e.trans h2⟩) .inr⟩
theorem frW_mono {ps qs : List Nat} {z z1 : aSt} (h : frW ps z z1) (hs : ∀ p, p ∈ ps → p ∈ qs) : frW qs z z1 := ⟨fr_mono h.1 fun b _ g => g.elim .inl fun g => .inr (hs b g), h.2⟩
theorem frW_refl {ps : List Nat} (z : aSt) : frW ps z z := ⟨fr_refl z, fun _ => rfl, fun _ _ => rfl, shp_refl z, fun _ => .inl rfl⟩
theorem frD_W {ps : List Nat} {z z' : aSt} (f : frD z z') : frW ps z z' := by
  refine ⟨fr_mono f.1 fun b _ g => .inl g, f.2.1, f.2.2.1, fun b hb => ⟨okQ_fr hb f.1, fun k => ?_, fun k _ _ => ?_⟩, f.2.2.2⟩
  · exact ((frD_prt hb f).2 k).2
  · exact ((frD_prt hb f).2 k).1
/-- own or first of a Part is written -/
theorem frW_sI {ps : List Nat} {z : aSt} {p k : Nat} {v : Int32} (hp : p ∈ ps) (h4 : 468 ≤ p) (hk : k = 6 ∨ k = 7) : frW ps z (sI z p k v) := by
  refine ⟨fr_sI fun _ => .inr hp, fun _ => rfl, fun j _ => gI_ne (by omega), fun b hb => ⟨hb, fun _ => rfl, fun j h6 h7 => gI_nk (by omega)⟩, fun _ => .inl rfl⟩
theorem dutT_frW {ps : List Nat} {z z' : aSt} (h : dutT z) (f : frW ps z z') : dutT z' := by
  obtain ⟨h1, h2, h3, h4, h5, h6, h7, h8, h9, h10, h11, h12⟩ := h
  have t : ∀ b, b < 468 → gT z' b = gT z b := fun b hb => f.1.2.1 b (by unfold lv; omega)
  exact ⟨(t _ (by decide)).trans h1, Nat.le_trans h2 f.1.1, (f.2.1 1).trans h3, (f.2.1 2).trans h4, (f.2.1 3).trans h5, (f.2.1 4).trans h6, (f.2.1 5).trans h7, (t _ (by decide)).trans h8, (t _ (by decide)).trans h9, (t _ (by decide)).trans h10, (t _ (by decide)).trans h11, (t _ (by decide)).trans h12⟩
/-- obligations numbered before stay -/
def kept (ps : List Nat) (z z' : aSt) (i : Nat) : Prop := gR z' 105 i = gR z 105 i ∧ (gR z 105 i = none → (∃ b, gR z 109 i = some b ∧ b ∉ ps) → (gI z 108 i = 0 ∨ gI z 108 i = 1) → ent z' i = ent z i)
