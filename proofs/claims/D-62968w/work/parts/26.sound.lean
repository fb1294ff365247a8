/-! SOUNDNESS, 17: the whole -/
set_option maxRecDepth 100000
theorem aHs_ok : (aMs.take 183).all (fun m => (mHan m).all (fun h => aExT h.2.2.2.1 && !Nat.beq h.2.2.2.2 0)) = true := by decide +kernel
/-- handlers, as the tables say -/
def aHOK (mm : aMi) : Prop := ∀ h ∈ mHan mm, aHanOK mm h ∧ aExT h.2.2.2.1 = true ∧ h.2.2.2.2 ≠ 0
theorem aHOK_at {k : Nat} {m : aMi} (hk : k < 183) (h : aMs[k]? = some m) : aHOK m := by
  have M := aMOK_at hk h
  have hm : m ∈ aMs.take 183 := List.mem_of_getElem? (i := k) (by rw [List.getElem?_take_of_lt hk]; exact h)
  have h1 := List.all_eq_true.mp aHs_ok m hm
  intro h0 hh0
  have h2 := List.all_eq_true.mp h1 h0 hh0
  simp only [Bool.and_eq_true, Bool.not_eq_true'] at h2
  exact ⟨M.2.2.2.2.2.2.2.1 h0 hh0, h2.1, fun e => by rw [e] at h2; exact absurd h2.2 (by decide)⟩
/-- cells are never lost -/
theorem aRuns_mono {call : aRel} (hc : ∀ j as z r z', call j as z r z' → gZ z ≤ gZ z' ∧ gS z ≤ gS z') {m : aMi} {pc : Nat} {L : List (Option Value)} {S : List Value} {z z' : aSt} {r : aRes} (h : aRuns call m pc L S z r z') : gZ z ≤ gZ z' ∧ gS z ≤ gS z' := by
  refine h (fun _ _ _ z => gZ z ≤ gZ z' ∧ gS z ≤ gS z') ⟨fun _ _ _ _ => ⟨Nat.le_refl _, Nat.le_refl _⟩, fun pc L S z c h k => ?_, fun pc L S z j as S0 v z1 _ h k => ?_, fun pc L S z j as S0 x z1 h _ hcl _ _ k => ?_, fun pc L S z j as S0 x _ hcl _ _ => hc _ _ _ _ _ hcl, fun pc L S z x h _ => ?_⟩
  · unfold aNx at h
    split at h
    · have := aStep_mono h
      exact ⟨Nat.le_trans this.1 k.1, Nat.le_trans this.2 k.2⟩
    · cases h
  · have := hc _ _ _ _ _ h
    exact ⟨Nat.le_trans this.1 k.1, Nat.le_trans this.2 k.2⟩
  · have := hc _ _ _ _ _ hcl
    exact ⟨Nat.le_trans this.1 k.1, Nat.le_trans this.2 k.2⟩
  · unfold aThr at h
    split at h
    · split at h
      · split at h
        · have := Option.some.inj h
          rw [← (Prod.mk.inj this).2]
          exact ⟨Nat.le_succ _, Nat.le_add_right _ _⟩
        · cases h
      · cases h
    · cases h
theorem aEx_mono : ∀ d j as z r z', aEx d j as z r z' → gZ z ≤ gZ z' ∧ gS z ≤ gS z' := by
  intro d
  induction d with
  | zero => intro j as z r z' h; exact h.elim
  | succ d ih =>
    intro j as z r z' h
    obtain ⟨m, L, h1, h2, h3⟩ := h
    exact aRuns_mono ih h3
theorem aRuns_deeper {c1 c2 : aRel} (hc : ∀ j as z r z', c1 j as z r z' → c2 j as z r z') {m : aMi} {pc : Nat} {L : List (Option Value)} {S : List Value} {z z' : aSt} {r : aRes} (h : aRuns c1 m pc L S z r z') : aRuns c2 m pc L S z r z' := by
  intro P H
  exact h P ⟨H.1, H.2.1, fun pc L S z j as S0 v z1 a b k => H.2.2.1 pc L S z j as S0 v z1 a (hc _ _ _ _ _ b) k, fun pc L S z j as S0 x z1 h a b c d k => H.2.2.2.1 pc L S z j as S0 x z1 h a (hc _ _ _ _ _ b) c d k, fun pc L S z j as S0 x a b c d => H.2.2.2.2.1 pc L S z j as S0 x a (hc _ _ _ _ _ b) c d, H.2.2.2.2.2⟩
theorem aEx_up : ∀ d j as z r z', aEx d j as z r z' → aEx (d + 1) j as z r z' := by
  intro d
  induction d with
  | zero => intro j as z r z' h; exact h.elim
  | succ d ih =>
    intro j as z r z' h
    obtain ⟨m, L, h1, h2, h3⟩ := h
    exact ⟨m, L, h1, h2, aRuns_deeper ih h3⟩
section SND
variable {p : Program} {l : Launch} {e : Env} {R : Room} {s : State} {m : MethodId} {args : Array Value} {below : List Frame} {meth : Method} {c : Code} {D : aD} {mm : aMi} {z0 zE : aSt} {Q : State → Prop}
variable {pc : Nat} {L : List (Option Value)} {S S0 : List Value} {z z1 : aSt}
/-- what a call asks and gives -/
theorem a_callW {d j : Nat} {as : List Value} {r1 : aRes} (C : aCx p s m meth c D mm) (hk : aChk mm = true) (hf : d + 9 ≤ R.frames) (hlo : 280 + 80 * d ≤ R.locals) (IH : ∀ k as z r z', k < 183 → aEx d k as z r z' → aMet l d k as z r z' D)
    (hcall : aCall mm pc S z = some (j, as, S0)) (hex : aEx d j as z r1 z1) {H : Heap} {ls : Array Slot} {locs : List Loc} {cells slots : Nat} (hR : aRep D z H) (hL : aLoc D L ls) (hl : L.length = mLoc mm) (hS : va_S (aA D) s.heap H locs) (hc : cells + (gZ z1 - gZ z) ≤ R.cells) (hs : slots + (gS z1 - gS z) ≤ R.slots)
    {T : State} (hT : T.heap = H) (X : Stand p l e R s m args below meth c T locs cells slots) :
    ∃ (o : Outcome) (T' : State) (L9 : List Loc), aOut D r1 o ∧ Stand p l e R s m args below meth c T' (locs ++ L9) (cells + (gZ z1 - gZ z)) (slots + (gS z1 - gS z)) ∧ aRep D z1 T'.heap ∧ va_S (aA D) s.heap T'.heap (locs ++ L9) ∧
      (∀ v, o = .returned v → ∀ tg, Steps p.tables e below (T'.setTop (F0 m (pc + 3) ls (v.toList ++ S0.map (aRh D)))) tg → Steps p.tables e below (T.setTop (F0 m pc ls (S.map (aRh D)))) tg) ∧
      (∀ x, o = .threw x → ∀ tg, Steps p.tables e below ((T'.setTop (F0 m pc ls (S0.map (aRh D)))).pushFrame (.throwing x)) tg → Steps p.tables e below (T.setTop (F0 m pc ls (S.map (aRh D)))) tg) := by
  have K := C.2.2.2.2.2.2.1
  have hsz : (F0 m pc ls (S.map (aRh D))).locals.size = c.maxLocals := by rw [C.2.2.1, ← hl]; exact hL.1
  have fin : ∀ (mm' : aMi) (ig : Instr), aMs[j]? = some mm' → j < 183 → S0.length ≤ 12 → decode (mBytes mm) pc = .ok (ig, 3) → aInv p l e R s m args below meth c T locs cells slots (F0 m pc ls (S.map (aRh D))) (S0.map (aRh D)) (mName mm') (as.map (aRh D)).toArray → _ := fun mm' ig h1 h2 h3 h4 h5 =>
    a_run (p := p) C.1 (IH j as z r1 z1 h2 hex) h1 (aMOK_at h2 h1) K h5 rfl (by rw [hT]; exact hR) (by rw [hT]; exact hS) rfl hsz rfl (by rw [List.length_map]; exact h3) (by rw [C.2.1]; exact h4) hf hlo hc hs
  have recv : ∀ (a t : Nat) (q : vw_C), (gT z a).1 = t → aCl[t]? = some q → ∃ cell : Cell, T.heap[aMu D a]? = some cell ∧ cell.vm.isStatics = false ∧ s.vm.findClass q.1 = some cell.cls ∧ ∃ kB, s.vm.classes[cell.cls]? = some kB := by
    intro a t q h1 h2
    obtain ⟨cell, q1, q2, -, -, q5, -, -⟩ := aObj_at hR (show gT z a = (t, (gT z a).2) by rw [← h1]) h2
    obtain ⟨-, hfc, kC, hkC, -⟩ := aKn K h2
    exact ⟨cell, by rw [hT]; exact q1, q5, by rw [q2]; exact hfc, kC, by rw [q2]; exact hkC⟩
  have stk : ∀ (n a : Nat), S.drop n = .ref a :: S0 → n ≤ S.length → S.map (aRh D) = ((S.take n).reverse.map (aRh D)).reverse ++ .ref (aMu D a) :: S0.map (aRh D) ∧ ((S.take n).reverse.map (aRh D)).length = n := by
    intro n a h1 h2
    constructor
    · rw [← List.map_reverse, List.reverse_reverse]
      have h3 : S = S.take n ++ .ref a :: S0 := by rw [← h1, List.take_append_drop]
      conv => lhs; rw [h3]
      rw [List.map_append]
      rfl
    · rw [List.length_map, List.length_reverse, List.length_take]
      omega
  unfold aCall at hcall
  split at hcall
  · rename_i idx hat
    have hdec := a_dec' hk hat rfl
    split at hcall
    · rename_i j' n t hcal
      split at hcall
      · rename_i a S9 hdrop
        split at hcall
        · rename_i hcond
          have hcall := Option.some.inj hcall
          simp only [Prod.mk.injEq] at hcall
          obtain ⟨rfl, rfl, rfl⟩ := hcall
          obtain ⟨mm', g1, g2, g3, g4⟩ := aCal_ok hcal
          obtain ⟨w1, w2⟩ := stk n a hdrop hcond.1
          rcases g4 with ⟨-, g5, g6, q, g7, g8⟩ | ⟨g4, -⟩ | ⟨g4, -⟩ | ⟨g4, -⟩ | ⟨g4, -⟩ | ⟨g4, -⟩
          · obtain ⟨cell, r1, r2, r3, -⟩ := recv a t q hcond.2.1 g7
            have hsel : (Cond.selects q.1 (mName mm') (mName mm')).before args s = true := by
              rcases g8 with g8 | ⟨ht, g8⟩
              · exact K.word g8 args
              · have ht : t = 11 := ht
                subst ht
                cases g7
                exact word_at (State.WarmedH.refl s) (Or.inl rfl) (K.kw.2.2.2.2.2.2.1 _ g8)
            exact fin mm' _ g1 g2 hcond.2.2 hdec (aI_V X C.1 K (aMOK_at g2 g1) g3 C.2.2.2.2.2.1 (K.word g5 args) (K.word g6 args) hsel r1 r2 r3 rfl w2 w1 (by rw [C.2.1]; exact hdec))
          all_goals cases g4
        · cases hcall
      · cases hcall
    · rename_i j' n t hcal
      split at hcall
      · rename_i a S9 hdrop
        split at hcall
        · rename_i hcond
          have hcall := Option.some.inj hcall
          simp only [Prod.mk.injEq] at hcall
          obtain ⟨rfl, rfl, rfl⟩ := hcall
          obtain ⟨mm', g1, g2, g3, g4⟩ := aCal_ok hcal
          obtain ⟨w1, w2⟩ := stk n a hdrop hcond.1
          rcases g4 with ⟨g4, -⟩ | ⟨g4, -⟩ | ⟨g4, -⟩ | ⟨g4, -⟩ | ⟨-, x, q, y1, y2, y3, y4, y5, ⟨b9, L9, r9, y6⟩, y7, y8, y9⟩ | ⟨g4, -⟩
          case inr.inr.inr.inr.inl =>
            obtain ⟨cell, r1, r2, r3, -⟩ := recv a t q hcond.2.1 y7
            exact fin mm' _ g1 g2 hcond.2.2 hdec (aI_U X C.1 K (aMOK_at g2 g1) C.2.2.2.2.2.1 y2 (K.word y1 args) (K.word y3 args) y4 (K.word y5 args) (K.word y6 args) (K.word y9 args) (K.word y8 args) r1 r2 r3 rfl w2 w1 (by rw [C.2.1]; exact hdec))
          all_goals cases g4
        · cases hcall
      · cases hcall
    · cases hcall
  · rename_i idx hat
    have hdec := a_dec' hk hat rfl
    split at hcall
    · rename_i j' n t hcal
      split at hcall
      · rename_i hcond
        have hcall := Option.some.inj hcall
        simp only [Prod.mk.injEq] at hcall
        obtain ⟨rfl, rfl, rfl⟩ := hcall
        obtain ⟨mm', g1, g2, g3, g4⟩ := aCal_ok hcal
        rcases g4 with ⟨g4, -⟩ | ⟨-, g5, g6⟩ | ⟨g4, -⟩ | ⟨g4, -⟩ | ⟨g4, -⟩ | ⟨g4, -⟩
        case inr.inl =>
          exact fin mm' _ g1 g2 hcond.2 hdec (aI_S X C.1 K (aMOK_at g2 g1) g3 C.2.2.2.2.2.1 (K.word g5 args) (K.word g6 args) rfl (by show ((S.take n).reverse.map (aRh D)).length = n; rw [List.length_map, List.length_reverse, List.length_take]; have := hcond.1; omega) (by
            show S.map (aRh D) = ((S.take n).reverse.map (aRh D)).reverse ++ (S.drop n).map (aRh D)
            rw [← List.map_reverse, List.reverse_reverse, ← List.map_append, List.take_append_drop]) (by rw [C.2.1]; exact hdec))
        all_goals cases g4
      · cases hcall
    · cases hcall
  · rename_i idx hat
    have hdec := a_dec' hk hat rfl
    split at hcall
    · rename_i j' n t hcal
      split at hcall
      · rename_i a S9 hdrop
        split at hcall
        · rename_i hcond
          have hcall := Option.some.inj hcall
          simp only [Prod.mk.injEq] at hcall
          obtain ⟨rfl, rfl, rfl⟩ := hcall
          obtain ⟨mm', g1, g2, g3, g4⟩ := aCal_ok hcal
          obtain ⟨w1, w2⟩ := stk n a hdrop hcond.1
          rcases g4 with ⟨g4, -⟩ | ⟨g4, -⟩ | ⟨-, y1, y2, y3, y4⟩ | ⟨g4, -⟩ | ⟨g4, -⟩ | ⟨g4, -⟩
          case inr.inr.inl =>
            exact fin mm' _ g1 g2 hcond.2 hdec (aI_I X C.1 K (aMOK_at g2 g1) g3 C.2.2.2.2.2.1 y1 y2 (Or.inl (K.word y3 args)) (K.word y4 args) rfl w2 w1 (by rw [C.2.1]; exact hdec))
          all_goals cases g4
        · cases hcall
      · cases hcall
    · rename_i j' n t hcal
      split at hcall
      · rename_i a S9 hdrop
        split at hcall
        · rename_i hcond
          have hcall := Option.some.inj hcall
          simp only [Prod.mk.injEq] at hcall
          obtain ⟨rfl, rfl, rfl⟩ := hcall
          obtain ⟨mm', g1, g2, g3, g4⟩ := aCal_ok hcal
          obtain ⟨w1, w2⟩ := stk n a hdrop hcond.1
          rcases g4 with ⟨g4, -⟩ | ⟨g4, -⟩ | ⟨g4, -⟩ | ⟨-, y1, y2, ⟨host, y3⟩, y4⟩ | ⟨g4, -⟩ | ⟨g4, -⟩
          case inr.inr.inr.inl =>
            exact fin mm' _ g1 g2 hcond.2 hdec (aI_I X C.1 K (aMOK_at g2 g1) g3 C.2.2.2.2.2.1 y1 y2 (Or.inr ⟨host, va_Nw.use rfl (K.2.2.1 _ y3)⟩) (K.word y4 args) rfl w2 w1 (by rw [C.2.1]; exact hdec))
          all_goals cases g4
        · cases hcall
      · cases hcall
    · rename_i j' n t hcal
      split at hcall
      · rename_i a S9 hdrop
        split at hcall
        · rename_i hcond
          have hcall := Option.some.inj hcall
          simp only [Prod.mk.injEq] at hcall
          obtain ⟨rfl, rfl, rfl⟩ := hcall
          obtain ⟨mm', g1, g2, g3, g4⟩ := aCal_ok hcal
          obtain ⟨w1, w2⟩ := stk n a hdrop hcond.1
          rcases g4 with ⟨g4, -⟩ | ⟨g4, -⟩ | ⟨g4, -⟩ | ⟨g4, -⟩ | ⟨g4, -⟩ | ⟨-, y1, y2, y3, y4, y5, q, y6⟩
          case inr.inr.inr.inr.inr =>
            obtain ⟨cell, r1, r2, r3, kB, r4⟩ := recv a t q hcond.2.1 y6
            exact fin mm' _ g1 g2 hcond.2.2 hdec (aI_P X C.1 K (aMOK_at g2 g1) g3 C.2.2.2.2.2.1 (K.word y2 args) (K.word y3 args) (K.word y5 args) y1 (K.word y4 args) r1 r2 r4 rfl w2 w1 (by rw [C.2.1]; exact hdec))
          all_goals cases g4
        · cases hcall
      · cases hcall
    · cases hcall
  · cases hcall
end SND
