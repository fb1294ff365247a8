/-! SOUNDNESS, 18: runs are walks; the theorem -/
set_option maxRecDepth 100000
section CLO
variable {p : Program} {l : Launch} {e : Env} {R : Room} {s : State} {m : MethodId} {args : Array Value} {below : List Frame} {meth : Method} {c : Code} {D : aD} {mm : aMi} {z0 zE : aSt} {Q : State → Prop}
variable {pc : Nat} {L : List (Option Value)} {S S0 : List Value} {z z1 : aSt} {r : aRes}
theorem aThr_inv {x : Nat} (h : aThr mm pc S z = some (x, zE)) : ∃ i j q t, aAt mm pc = some (.new i) ∧ aAt mm (pc + 3) = some .dup ∧ aAt mm (pc + 4) = some (.invokespecial j) ∧ aAt mm (pc + 7) = some .athrow ∧ aNwt (mOwn mm) i = some q ∧ aExc (mOwn mm) j = some t ∧ q.1 = t ∧ aNoH mm (pc + 7) = true ∧ S.length ≤ 12 ∧ x = 100 + gZ z ∧ zE = aNew z t 0 q.2 := by
  unfold aThr at h
  split at h
  · rename_i i j h1 h2 h3 h4
    split at h
    · rename_i q t h5 h6
      split at h
      · rename_i hc
        have h := Prod.mk.inj (Option.some.inj h)
        exact ⟨i, j, q, t, h1, h2, h3, h4, h5, h6, hc.1, hc.2.1, hc.2.2, h.1.symm, h.2.symm⟩
      · cases h
    · cases h
  · cases h
set_option maxHeartbeats 2000000 in
/-- 'throw new X()' -/
theorem sx_thn {x : Nat} (C : aCx p s m meth c D mm) (hT : aTbl c mm) (hk : aChk mm = true) (htr : l.stackTraces = false) (hcel : gZ zE - gZ z0 ≤ R.cells) (hslo : gS zE - gS z0 ≤ R.slots) (hf : 8 ≤ R.frames) (hlo : 200 ≤ R.locals) (h : aThr mm pc S z = some (x, zE))
    (hthr : ∀ (T : State) (locs : List Loc), Stand p l e R s m args below meth c T locs (gZ zE - gZ z0) (gS zE - gS z0) → aRep D zE T.heap → va_S (aA D) s.heap T.heap locs → (T.setFrames (.throwing (aMu D x) :: below)).status = .running → Ended (T.setFrames (.throwing (aMu D x) :: below)) below (.threw (aMu D x)) → s.WarmedH (T.setFrames (.throwing (aMu D x) :: below)).vm → s.sameButNew ({ T.setFrames (.throwing (aMu D x) :: below) with vm := s.vm } : State) locs (gZ zE - gZ z0) (gS zE - gS z0) → Q (T.setFrames (.throwing (aMu D x) :: below))) :
    aWW p l e R s m args below meth c D mm z0 zE Q pc L S z := by
  have K := C.2.2.2.2.2.2.1
  obtain ⟨i, j, q9, t, a1, a2, a3, a4, a5, a6, a7, a8, a9, rfl, rfl⟩ := aThr_inv h
  have d1 := a_dec' hk a1 rfl
  have d2 := a_dec' hk a2 rfl
  have d3 := a_dec' hk a3 rfl
  have d4 := a_dec' hk a4 rfl
  have e1 : gZ (aNew z t 0 q9.2) = gZ z + 1 := rfl
  have e2 : gS (aNew z t 0 q9.2) = gS z + q9.2 := rfl
  refine ⟨by rw [e1]; omega, by rw [e2]; omega, fun H ls locs hR hL hl hS h1 h2 => ?_⟩
  obtain ⟨q0, hq, hl1, hl2, hl3⟩ := aNwt_ok a5
  rw [a7] at hq
  obtain ⟨ett, h40⟩ := aTl _ q0 hq
  obtain ⟨hxt, ⟨q8, hq8, hnm⟩, hat⟩ := aXA (aExc_ok a6)
  cases hq.symm.trans hq8
  obtain ⟨hSl, hfc, kC0, hkC0, hkind⟩ := aKn K hq
  refine W.newcK C.1 C.2.1 C.2.2.2.2.2.1 (K.word hl1 args) (K.word hl2 args) (K.word hl3 args) rfl d1 (by rw [e1] at hcel; omega) (by rw [e2] at hslo; omega) hfc rfl (fun H' kC hkC f1 f2 f3 => ?_)
  refine lv_dup C.1 C.2.1 d2 rfl ?_
  intro T hTh X
  have hlt : H.size = aMu D (100 + gZ z) := by rw [aMu_ge (by omega), hR.1]; omega
  have hS' := va_S_new hS f2 f3
  obtain ⟨vm', ce, L9, X2, hb9, g1, g2, g3, st⟩ := a_ctor (D := D) (cX := dC D t) (kX := kC) X C.1 (by rw [X.admits.platform]; exact htr) (ic := j) (own := aOwn (mOwn mm)) C.2.2.2.2.2.1 (aXfit hxt) K (fun a ha => (hat a ha).at K args) (by rw [hTh]; exact hS') (a := H.size) (by rw [← hnm]; exact hfc) hkC (by rw [hTh]; exact f1) (by rw [hlt]; exact aMu_A (by omega))
    (g := F0 m (pc + 3 + 1) ls (.ref H.size :: .ref H.size :: S.map (aRh D))) rfl (by rw [C.2.2.1, ← hl]; exact hL.1) (rest := .ref H.size :: S.map (aRh D)) rfl rfl (by rw [List.length_cons, List.length_map]; omega) (by rw [C.2.1]; exact d3) hf hlo
  have hheap : ((T.setVm vm').setCell H.size ce).heap = H'.setIfInBounds H.size ce := by rw [← hTh]; rfl
  have hR' : aRep D (aNew z t 0 q9.2) ((T.setVm vm').setCell H.size ce).heap := by
    rw [hheap]
    refine hR.new (cell := ce) (by simp [Array.getElem?_setIfInBounds, f2]) (by simp [f2]) (fun q hq => ?_) ⟨g1, fun _ => ⟨g2, g3⟩, (fun h => by rw [g2] at h; cases h), by rw [g2]; rfl, (fun h => by omega)⟩ (fun k hk => ?_)
    · rw [← f3 q hq]
      simp [Array.getElem?_setIfInBounds, Nat.ne_of_gt hq]
    · rw [show aNp t 0 = (aTysF t).length from if_pos h40, ett] at hk
      exfalso
      have : q0.2.2 = 0 := by
        have hz : ∀ t, t < 18 → aExT t = true → ((aCl[t]?).map (fun q : vw_C => q.2.2)) = some 0 := by decide +kernel
        have ht18 : t < 18 := by
          unfold aExT at hxt
          simp only [Bool.and_eq_true] at hxt
          exact Nat.le_of_ble_eq_true hxt.2
        have := hz t ht18 hxt
        rw [hq] at this
        exact Option.some.inj this
      omega
  have hS2 : va_S (aA D) s.heap ((T.setVm vm').setCell H.size ce).heap (locs ++ L9) := by
    rw [hheap]
    refine ⟨by simp; have := hS'.1; exact this, fun q w1 w2 => ?_, fun q hq => ?_⟩
    · have hne : q ≠ H.size := fun e => w2 (by rw [e, hlt]; exact aMu_A (by omega))
      rw [← hS'.2.1 q w1 w2]
      simp [Array.getElem?_setIfInBounds, Ne.symm hne]
    · rcases List.mem_append.mp hq with h | h
      · exact hS.2.2 q h
      · rw [hb9 q h, hlt]
        exact aMu_A (by omega)
  have hlocks := C.2.2.2.2.1
  obtain ⟨w1, w2, w3, w4, w5⟩ := X2.athrowLeaves C.1 (g := F0 m (pc + 3 + 1 + 3) ls (.ref H.size :: S.map (aRh D))) rfl rfl rfl (aNoH_out hT a8) (a := H.size) (rest := S.map (aRh D)) rfl (by rw [C.2.1]; exact d4)
  refine ⟨_, st _ w1, ?_⟩
  have ec : gZ z - gZ z0 + 1 = gZ (aNew z t 0 q9.2) - gZ z0 := by rw [e1]; omega
  have es : gS z - gS z0 + q9.2 = gS (aNew z t 0 q9.2) - gS z0 := by rw [e2]; omega
  rw [ec, es] at X2 w5
  rw [hlt] at X2 w2 w3 w4 w5 hR' hS2 ⊢
  exact hthr _ _ X2 hR' hS2 w2 w3 w4 w5
/-- runs are walks -/
theorem aClose {d : Nat} (C : aCx p s m meth c D mm) (hT : aTbl c mm) (hk : aChk mm = true) (hH : aHOK mm) (htr : l.stackTraces = false) (hcel : gZ zE - gZ z0 ≤ R.cells) (hslo : gS zE - gS z0 ≤ R.slots) (hf : d + 9 ≤ R.frames) (hlo : 280 + 80 * d ≤ R.locals)
    (IH : ∀ k as z r z', k < 183 → aEx d k as z r z' → aMet l d k as z r z' D) (hfin : ∀ pc L S, aFin mm pc S zE = some r → aWW p l e R s m args below meth c D mm z0 zE Q pc L S zE)
    (hthr : ∀ x, r = .inr x → ∀ (T : State) (locs : List Loc), Stand p l e R s m args below meth c T locs (gZ zE - gZ z0) (gS zE - gS z0) → aRep D zE T.heap → va_S (aA D) s.heap T.heap locs → (T.setFrames (.throwing (aMu D x) :: below)).status = .running → Ended (T.setFrames (.throwing (aMu D x) :: below)) below (.threw (aMu D x)) → s.WarmedH (T.setFrames (.throwing (aMu D x) :: below)).vm → s.sameButNew ({ T.setFrames (.throwing (aMu D x) :: below) with vm := s.vm } : State) locs (gZ zE - gZ z0) (gS zE - gS z0) → Q (T.setFrames (.throwing (aMu D x) :: below))) :
    aClosed (aEx d) mm r zE (aWW p l e R s m args below meth c D mm z0 zE Q) := by
  have hlocks := C.2.2.2.2.1
  refine ⟨hfin, fun pc L S z cf h k => ?_, fun pc L S z j as S0 v z1 h1 h2 k => ?_, fun pc L S z j as S0 x z1 hd h1 h2 h3 h4 k => ?_, fun pc L S z j as S0 x h1 h2 h3 h4 => ?_, fun pc L S z x h1 h2 => ?_⟩
  · unfold aNx at h
    split at h
    · rename_i i hi
      exact sx_all C hk hcel hslo (by omega) (by omega) hi h k
    · cases h
  · have hm := aEx_mono _ _ _ _ _ _ h2
    have k1 := k.1
    have k2 := k.2.1
    refine ⟨by omega, by omega, fun H ls locs hR hL hl hS w1 w2 => ?_⟩
    intro T hTT X
    obtain ⟨o, T', L9, b1, b2, b3, b4, b5, -⟩ := a_callW C hk hf hlo IH h1 h2 hR hL hl hS (cells := gZ z - gZ z0) (slots := gS z - gS z0) (by omega) (by omega) hTT X
    have b1 : o = .returned (v.map (aRh D)) := b1
    subst b1
    rw [show gZ z - gZ z0 + (gZ z1 - gZ z) = gZ z1 - gZ z0 by omega, show gS z - gS z0 + (gS z1 - gS z) = gS z1 - gS z0 by omega] at b2
    obtain ⟨t2, c1, c2⟩ := k.2.2 T'.heap ls (locs ++ L9) b3 hL hl b4 (by omega) (by omega) T' rfl b2
    refine ⟨t2, b5 _ rfl t2 ?_, c2⟩
    rw [show (v.map (aRh D)).toList ++ S0.map (aRh D) = (v.toList ++ S0).map (aRh D) by cases v <;> rfl]
    exact c1
  · have hm := aEx_mono _ _ _ _ _ _ h2
    have k1 := k.1
    have k2 := k.2.1
    refine ⟨by omega, by omega, fun H ls locs hR hL hl hS w1 w2 => ?_⟩
    intro T hTT X
    obtain ⟨o, T', L9, b1, b2, b3, b4, -, b6⟩ := a_callW C hk hf hlo IH h1 h2 hR hL hl hS (cells := gZ z - gZ z0) (slots := gS z - gS z0) (by omega) (by omega) hTT X
    have b1 : o = .threw (aMu D x) := b1
    subst b1
    rw [show gZ z - gZ z0 + (gZ z1 - gZ z) = gZ z1 - gZ z0 by omega, show gS z - gS z0 + (gS z1 - gS z) = gS z1 - gS z0 by omega] at b2
    have ht50 : (gT z1 x).1 < 60 := by
      have := h3
      unfold aExT at this
      simp only [Bool.and_eq_true] at this
      have := Nat.le_of_ble_eq_true this.2
      omega
    obtain ⟨-, cell, q2, ⟨p1, -, -, p4, -⟩, -⟩ := b3.2.2 x (gT z1 x).1 (gT z1 x).2 rfl ht50
    obtain ⟨vm', X2, st⟩ := a_catch b2 C hT hH (g := F0 m pc ls (S0.map (aRh D))) rfl h3 q2 p1 p4 h4
    obtain ⟨t2, c1, c2⟩ := k.2.2 T'.heap ls (locs ++ L9) b3 hL hl b4 (by omega) (by omega) (T'.setVm vm') rfl X2
    exact ⟨t2, b6 _ rfl t2 (st t2 c1), c2⟩
  · have hm := aEx_mono _ _ _ _ _ _ h2
    refine ⟨hm.1, hm.2, fun H ls locs hR hL hl hS w1 w2 => ?_⟩
    intro T hTT X
    obtain ⟨o, T', L9, b1, b2, b3, b4, -, b6⟩ := a_callW C hk hf hlo IH h1 h2 hR hL hl hS (cells := gZ z - gZ z0) (slots := gS z - gS z0) (by omega) (by omega) hTT X
    have b1 : o = .threw (aMu D x) := b1
    subst b1
    rw [show gZ z - gZ z0 + (gZ zE - gZ z) = gZ zE - gZ z0 by omega, show gS z - gS z0 + (gS zE - gS z) = gS zE - gS z0 by omega] at b2
    obtain ⟨c1, c2, c3, c4, c5⟩ := b2.leaveThrown (aMu D x) (g := F0 m pc ls (S0.map (aRh D))) rfl rfl rfl (aNoH_out hT h4)
    exact ⟨_, b6 _ rfl _ c1, hthr x h3 T' (locs ++ L9) b2 b3 b4 c2 c3 c4 c5⟩
  · exact sx_thn C hT hk htr hcel hslo (by omega) (by omega) h1 (hthr x h2)
theorem W_mono {H : Heap} {locs : List Loc} {cells slots : Nat} {Q' : State → Prop} {g : JFrame} (h : ∀ t, Q t → Q' t) (w : W p l e R s m args below meth c H locs cells slots Q g) : W p l e R s m args below meth c H locs cells slots Q' g := fun T hT X => by
  obtain ⟨t, a, b⟩ := w T hT X
  exact ⟨t, a, h t b⟩
def aQc (D : aD) (r : aRes) (z' : aSt) : Array Value → State → Outcome → State → Prop := fun _ st o t => aOut D r o ∧ aRep D z' t.heap ∧ va_F (aA D) st t
/-- a method's own end -/
theorem a_fin {L : List (Option Value)} (C : aCx p s m meth c D mm) (hk : aChk mm = true) (h : aFin mm pc S zE = some r) (hQ : ∀ t, MQ below (aQc D r zE) args s (gZ zE - gZ z0) (gS zE - gS z0) (aA D) t → Q t) : aWW p l e R s m args below meth c D mm z0 zE Q pc L S zE := by
  have hlocks := C.2.2.2.2.1
  refine ⟨Nat.le_refl _, Nat.le_refl _, fun H ls locs hR hL hl hS w1 w2 => W_mono hQ ?_⟩
  have hq : ∀ (o : Outcome), aOut D r o → ∀ t : State, t.heap = H → s.WarmedH t.vm → aQc D r zE args s o t := fun o ho t ht _ => ⟨ho, by rw [ht]; exact hR, hS.F ht⟩
  have hret := C.2.2.2.1
  unfold aFin at h
  split at h
  · rename_i hat
    have hd := a_dec' hk hat rfl
    split at h
    · rename_i v
      split at h
      · rename_i hr
        obtain rfl := Option.some.inj h
        exact W.iret C.1 C.2.1 (hret.trans hr) (hq _ rfl) hS.2.2 hd
      · rename_i hr
        split at h
        · rename_i hn
          obtain rfl := Option.some.inj h
          exact W.zret C.1 C.2.1 (hret.trans hr) (congrArg Value.int hn) (hq _ rfl) hS.2.2 hd
        · cases h
      · rename_i hr
        split at h
        · rename_i hn
          obtain rfl := Option.some.inj h
          exact W.zret C.1 C.2.1 (hret.trans hr) (congrArg Value.int hn) (hq _ rfl) hS.2.2 hd
        · cases h
      · rename_i hr
        split at h
        · rename_i hn
          obtain rfl := Option.some.inj h
          exact W.zret C.1 C.2.1 (hret.trans hr) (congrArg Value.int hn) (hq _ rfl) hS.2.2 hd
        · cases h
      · cases h
    · cases h
  · rename_i hat
    have hd := a_dec' hk hat rfl
    split at h
    · split at h
      · rename_i hr
        obtain rfl := Option.some.inj h
        exact W.aret C.1 C.2.1 (hret.trans hr) (Or.inl ⟨_, rfl⟩) (Or.inr ⟨_, rfl⟩) (hq _ rfl) hS.2.2 hd
      · rename_i hr
        obtain rfl := Option.some.inj h
        exact W.aret C.1 C.2.1 (hret.trans hr) (Or.inr ⟨_, rfl⟩) (Or.inr ⟨_, rfl⟩) (hq _ rfl) hS.2.2 hd
      · cases h
    · split at h
      · rename_i hr
        obtain rfl := Option.some.inj h
        exact W.aret C.1 C.2.1 (hret.trans hr) (Or.inl ⟨_, rfl⟩) (Or.inl rfl) (hq _ rfl) hS.2.2 hd
      · rename_i hr
        obtain rfl := Option.some.inj h
        exact W.aret C.1 C.2.1 (hret.trans hr) (Or.inr ⟨_, rfl⟩) (Or.inl rfl) (hq _ rfl) hS.2.2 hd
      · cases h
    · cases h
  · rename_i hat
    have hd := a_dec' hk hat rfl
    split at h
    · split at h
      · rename_i hr
        obtain rfl := Option.some.inj h
        exact W.vret C.1 C.2.1 (hret.trans hr) (hq _ rfl) hS.2.2 hd
      · cases h
    · cases h
  · cases h
end CLO
/-- THE ABSTRACT MACHINE IS SOUND -/
theorem aSound (l : Launch) (htr : l.stackTraces = false) (D : aD) : ∀ d k as z r z', k < 183 → aEx d k as z r z' → aMet l d k as z r z' D := by
  intro d
  induction d with
  | zero => intro k as z r z' _ h; exact h.elim
  | succ d ih =>
    intro k as z r z' hk h mm hmm
    have hm := aEx_mono _ _ _ _ _ _ h
    refine ⟨hm.1, hm.2, fun p e R s m below meth c C hT hc hs hf hlo hR => ?_⟩
    obtain ⟨mm', L, h1, h2, h3⟩ := h
    cases hmm.symm.trans h1
    have M := aMOK_at hk hmm
    have hchk := M.2.2.2.2.2.2.1
    obtain ⟨hl, hloc⟩ := aEnt_loc (D := D) h2
    rw [lg_entry_eq]
    have key := h3 (aWW p l e R s m (as.map (aRh D)).toArray below meth c D mm z z' (aEnd D r z z' s below)) (aClose (d := d) C hT hchk (aHOK_at hk hmm) htr hc hs (by omega) (by omega) (fun k as z r z' hk9 h9 => ih k as z r z' hk9 h9)
      (fun pc L S h => a_fin C hchk h (fun t ht => by
        obtain ⟨o, b1, b2, ⟨b3, b4, b5⟩, L9, ⟨-, b6, b7⟩, b8⟩ := ht
        exact ⟨o, b1, b2, b3, b4, b5, L9, b6, b7, b8⟩))
      (fun x hx T locs X2 hR2 hS2 w1 w2 w3 w4 => ⟨.threw (aMu D x), w1, w2, by rw [hx]; rfl, hR2, hS2.F rfl, locs, w3, w4, hS2.2.2⟩))
    have := key.2.2 s.heap _ [] hR hloc hl va_S.rf (Nat.le_refl _) (Nat.le_refl _)
    rw [Nat.sub_self, Nat.sub_self] at this
    exact this
