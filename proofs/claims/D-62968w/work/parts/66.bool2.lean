/-! Reader.bool, a step down -/
set_option maxRecDepth 100000
theorem not_m {x : Nat} (h : x < 256) : nI 255 &&& (nI x ^^^ (-1)) = nI (255 ^^^ x) := by
  have key : ∀ x, x < 256 → nI 255 &&& (nI x ^^^ (-1)) = nI (255 ^^^ x) := by decide
  exact key x h
theorem x_bool1 {tx : List Nat} {d f dep a : Nat} {z : aSt} (hd : dep ≤ 12) (ih : ∀ a z, rdr z tx a → aW (d + 4) 41 [.ref 101, .int (nI (dep + 1)), .int (nI 0)] z (boolQ tx f a z)) (h : rdr z tx a) : aW (d + 5) 41 [.ref 101, .int (nI dep), .int (nI 0)] z (boolQ tx (f + 1) a z) := by
  have hT : (gT z 101).1 = 1 := by rw [h.1]
  have hc := tx_lt h.2.2.2.2.2.2.1 a
  have h40 := h.2.2.2.2.1
  have ha := h.2.2.2.2.2.2.2.2
  refine w_of (k := 41) (m := aM_X2_bool) rfl rfl ?_
  refine w_nx (pc' := 1) rfl ?_
  refine w_nx (pc' := 3) (S' := .int (nI 12) :: _) rfl ?_
  refine w_ncgt rfl rfl rfl (rfl) (rfl) (by omega) (by omega) (fun hb => ?_) (fun hb => ?_)
  · omega
  · refine w_nx (pc' := 7) (S' := .int (nI 1) :: _) rfl ?_
    refine w_nx (pc' := 11) rfl ?_
    obtain ⟨o, z1, e1, q1, q2⟩ := x_need1 (d := d + 3) (z := z)
    subst q1
    rw [q2] at e1
    refine w_cal (pc' := 14) rfl (rfl) (e1) ?_
    refine w_nx (pc' := 15) rfl ?_
    obtain ⟨o, z1, e1, q1, q2⟩ := x_here (d := d + 3) h
    subst q1
    rw [q2] at e1
    refine w_cal (pc' := 18) rfl (a_cv0 rfl rfl rfl (hT) rfl rfl) (e1) ?_
    obtain ⟨o, z1, e1, q0, ⟨v, q1, q2⟩ | ⟨q1, q2⟩⟩ := x_truthOf (d := d + 3) (z := z) hc
    · subst q2
      rw [q0] at e1
      refine w_cal (pc' := 21) rfl (rfl) (e1) ?_
      refine w_nx (pc' := 22) rfl ?_
      refine w_nx (pc' := 23) rfl ?_
      have hm := bm_lt (.inner 20 v 0 .leaf .leaf)
      refine w_iflt rfl rfl rfl (fun g => absurd g (nI_pos (by omega))) (fun _ => ?_)
      have hal : a < tx.length := by
        apply Nat.lt_of_not_le
        intro g
        rw [List.getD_eq_getElem?_getD, List.getElem?_eq_none g] at q1
        cases q1
      refine w_nx (pc' := 27) rfl ?_
      refine w_nx (pc' := 28) rfl ?_
      refine w_getI rfl rfl (hT) rfl rfl ?_
      refine w_top (h.2.2.2.2.2.2.2.1) ?_
      refine w_nx (pc' := 32) (S' := .int (nI 1) :: _) rfl ?_
      refine w_nx (pc' := 33) rfl ?_
      refine w_top (nI_add _ _) ?_
      refine w_put rfl rfl (hT) (by omega) rfl rfl rfl ?_
      refine w_nx (pc' := 37) rfl ?_
      refine w_fin rfl (.inl ⟨_, a + 1, ?_, by omega, rfl, rfl⟩)
      unfold pB
      rw [q1]
    · subst q2
      rw [q0] at e1
      refine w_cal (pc' := 21) rfl (rfl) (e1) ?_
      refine w_nx (pc' := 22) rfl ?_
      refine w_nx (pc' := 23) rfl ?_
      refine w_iflt rfl rfl rfl (fun _ => ?_) (fun g => absurd (show (-1 : Int32) < 0 by decide) g)
      refine w_nx (pc' := 39) rfl ?_
      refine w_ifeq rfl rfl rfl (fun _ => ?_) (fun g => absurd rfl g)
      refine w_nx (pc' := 52) (S' := .int (nI 1) :: _) rfl ?_
      refine w_nx (pc' := 56) rfl ?_
      obtain ⟨o, z1, e1, q3, q4⟩ := x_need1 (d := d + 3) (z := z)
      subst q3
      rw [q4] at e1
      refine w_cal (pc' := 59) rfl (rfl) (e1) ?_
      refine w_nx (pc' := 60) rfl ?_
      refine w_nx (pc' := 62) (S' := .int (nI 33) :: _) rfl ?_
      obtain ⟨o, z1, e1, ⟨c1, c2, c3⟩ | ⟨c1, c2, c3⟩⟩ := x_takes (d := d + 2) (ch := 33) h (by decide)
      · subst c2
        rw [c3] at e1
        refine w_cal (pc' := 65) rfl (a_cv0 rfl rfl rfl (hT) rfl rfl) (e1) ?_
        refine w_ifeq rfl rfl rfl (fun g => absurd g (by decide)) (fun _ => ?_)
        have hal := tx_in c1 (by decide)
        have h1 : rdr (sI z 101 2 (nI (a + 1))) tx (a + 1) := rdr_at h (by omega)
        refine w_nx (pc' := 71) (S' := .int (nI 255) :: _) rfl ?_
        refine w_nx (pc' := 72) rfl ?_
        refine w_nx (pc' := 73) rfl ?_
        refine w_nx (pc' := 74) (S' := .int (nI 1) :: _) rfl ?_
        refine w_nx (pc' := 75) rfl ?_
        refine w_top (nI_add _ _) ?_
        refine w_nx (pc' := 76) (S' := .int (nI 0) :: _) rfl ?_
        have hp : pB tx (f + 1) a = bindP (pB tx f (a + 1)) fun t b => .inr (.inner 21 0 0 t .leaf, b) := by
          show (match lit (tx.getD a 0) with | some v => _ | none => _) = _
          rw [q1]
          show (if tx.getD a 0 = 33 then _ else _) = _
          rw [if_pos c1]
        obtain ⟨o, z2, e2, ⟨t, b, b1, b2, b3, b4⟩ | ⟨e', b1, b2, b3⟩⟩ := ih (a + 1) _ h1
        · subst b3
          rw [sI_sI] at b4
          rw [b4] at e2
          refine w_cal (pc' := 79) rfl (rfl) (e2) ?_
          refine w_nx (pc' := 80) (S' := .int ((-1)) :: _) rfl ?_
          refine w_nx (pc' := 81) rfl ?_
          refine w_nx (pc' := 82) rfl ?_
          refine w_top (not_m (bm_lt t)) ?_
          refine w_fin rfl (.inl ⟨.inner 21 0 0 t .leaf, b, ?_, b2, rfl, rfl⟩)
          rw [hp, b1]
          rfl
        · subst b2
          rw [sI_sI] at b3
          rw [b3] at e2
          refine w_thr (rfl) (e2) rfl ?_
          refine .inr ⟨e', ?_, rfl, rfl⟩
          rw [hp, b1]
          rfl
      · subst c2
        rw [c3] at e1
        refine w_cal (pc' := 65) rfl (a_cv0 rfl rfl rfl (hT) rfl rfl) (e1) ?_
        refine w_ifeq rfl rfl rfl (fun _ => ?_) (fun g => absurd rfl g)
        refine w_nx (pc' := 84) rfl ?_
        refine w_nx (pc' := 86) (S' := .int (nI 40) :: _) rfl ?_
        obtain ⟨o, z1, e1, ⟨c4, c5, c6⟩ | ⟨c4, c5, c6⟩⟩ := x_rtake (d := d + 1) (ch := 40) h (by decide)
        · subst c5
          rw [c6] at e1
          refine w_cal (pc' := 89) rfl (a_cv0 rfl rfl rfl (hT) rfl rfl) (e1) ?_
          have hal := tx_in c4 (by decide)
          have h1 : rdr (sI z 101 2 (nI (a + 1))) tx (a + 1) := rdr_at h (by omega)
          have hp : pB tx (f + 1) a = bindP (pB tx f (a + 1)) fun t b =>
              if tx.getD b 0 = 38 ∨ tx.getD b 0 = 124 then bindP (pB tx f (b + 1)) fun u c =>
                if tx.getD c 0 = 41 then .inr (.inner (if tx.getD b 0 = 38 then 22 else 23) 0 0 t u, c + 1) else .inl c
              else .inl b := by
            show (match lit (tx.getD a 0) with | some v => _ | none => _) = _
            rw [q1]
            show (if tx.getD a 0 = 33 then _ else _) = _
            rw [if_neg c1, if_pos c4]
          refine w_nx (pc' := 90) rfl ?_
          refine w_nx (pc' := 91) rfl ?_
          refine w_nx (pc' := 92) (S' := .int (nI 1) :: _) rfl ?_
          refine w_nx (pc' := 93) rfl ?_
          refine w_top (nI_add _ _) ?_
          refine w_nx (pc' := 94) (S' := .int (nI 0) :: _) rfl ?_
          obtain ⟨o, z2, e2, ⟨t, b, b1, b2, b3, b4⟩ | ⟨e', b1, b2, b3⟩⟩ := ih (a + 1) _ h1
          · subst b3
            rw [sI_sI] at b4
            rw [b4] at e2
            refine w_cal (pc' := 97) rfl (rfl) (e2) ?_
            rw [b1] at hp
            have hp2 : pB tx (f + 1) a = if tx.getD b 0 = 38 ∨ tx.getD b 0 = 124 then bindP (pB tx f (b + 1)) fun u c =>
                if tx.getD c 0 = 41 then .inr (.inner (if tx.getD b 0 = 38 then 22 else 23) 0 0 t u, c + 1) else .inl c
              else .inl b := hp
            have h2 : rdr (sI z 101 2 (nI b)) tx b := rdr_at h b2
            have both : ∀ (w : Nat) (hw : (tx.getD b 0 = 38 ∧ w = 1) ∨ (tx.getD b 0 = 124 ∧ w = 0)) (v6 : Option Value), wR (aEx (d + 4)) aM_X2_bool (boolQ tx (f + 1) a z) 118 [some (.ref 101), some (.int (nI dep)), some (.int (nI 0)), some (.int (-1)), some (.int (nI (bm t))), some (.int (nI w)), v6] [] (sI z 101 2 (nI (b + 1))) := by
              intro w hw v6
              have hbl : b < tx.length := by rcases hw with g | g <;> exact tx_in g.1 (by decide)
              have h3 : rdr (sI z 101 2 (nI (b + 1))) tx (b + 1) := rdr_at h (by omega)
              have hp3 : pB tx (f + 1) a = bindP (pB tx f (b + 1)) fun u c =>
                if tx.getD c 0 = 41 then .inr (.inner (if tx.getD b 0 = 38 then 22 else 23) 0 0 t u, c + 1) else .inl c := by
                rw [hp2, if_pos (by rcases hw with g | g; exact .inl g.1; exact .inr g.1)]
              refine w_nx (pc' := 119) rfl ?_
              refine w_nx (pc' := 120) rfl ?_
              refine w_nx (pc' := 121) (S' := .int (nI 1) :: _) rfl ?_
              refine w_nx (pc' := 122) rfl ?_
              refine w_top (nI_add _ _) ?_
              refine w_nx (pc' := 123) (S' := .int (nI 0) :: _) rfl ?_
              obtain ⟨o, z3, e3, ⟨u, cc, d1, d2, d3, d4⟩ | ⟨e', d1, d2, d3⟩⟩ := ih (b + 1) _ h3
              · subst d3
                rw [sI_sI] at d4
                rw [d4] at e3
                refine w_cal (pc' := 126) rfl (rfl) (e3) ?_
                have h4 : rdr (sI z 101 2 (nI cc)) tx cc := rdr_at h d2
                have hT4 : (gT (sI z 101 2 (nI cc)) 101).1 = 1 := hT
                rw [d1] at hp3
                have hp4 : pB tx (f + 1) a = if tx.getD cc 0 = 41 then .inr (.inner (if tx.getD b 0 = 38 then 22 else 23) 0 0 t u, cc + 1) else .inl cc := hp3
                refine w_nx (pc' := 128) rfl ?_
                refine w_nx (pc' := 129) rfl ?_
                refine w_nx (pc' := 131) (S' := .int (nI 41) :: _) rfl ?_
                obtain ⟨o, z4, e4, ⟨k1, k2, k3⟩ | ⟨k1, k2, k3⟩⟩ := x_rtake (d := d + 1) (ch := 41) h4 (by decide)
                · subst k2
                  rw [sI_sI] at k3
                  rw [k3] at e4
                  refine w_cal (pc' := 134) rfl (a_cv0 rfl rfl rfl (hT4) rfl rfl) (e4) ?_
                  have hcl := tx_in k1 (by decide)
                  rw [if_pos k1] at hp4
                  refine w_nx (pc' := 136) rfl ?_
                  rcases hw with ⟨g1, g2⟩ | ⟨g1, g2⟩
                  · subst g2
                    refine w_ifeq rfl rfl rfl (fun g => absurd g (by decide)) (fun _ => ?_)
                    refine w_nx (pc' := 141) rfl ?_
                    refine w_nx (pc' := 143) rfl ?_
                    refine w_nx (pc' := 144) rfl ?_
                    refine w_top (nI_and _ _) ?_
                    refine w_nx (pc' := 152) rfl ?_
                    refine w_fin rfl (.inl ⟨.inner 22 0 0 t u, cc + 1, ?_, by omega, rfl, rfl⟩)
                    rw [hp4, if_pos g1]
                  · subst g2
                    refine w_ifeq rfl rfl rfl (fun _ => ?_) (fun g => absurd rfl g)
                    refine w_nx (pc' := 149) rfl ?_
                    refine w_nx (pc' := 151) rfl ?_
                    refine w_nx (pc' := 152) rfl ?_
                    refine w_top (nI_or _ _) ?_
                    refine w_fin rfl (.inl ⟨.inner 23 0 0 t u, cc + 1, ?_, by omega, rfl, rfl⟩)
                    rw [hp4, if_neg (by omega)]
                · subst k2
                  rw [k3] at e4
                  refine w_thr (a_cv0 rfl rfl rfl (hT4) rfl rfl) (e4) rfl ?_
                  refine .inr ⟨cc, ?_, rfl, rfl⟩
                  rw [hp4, if_neg k1]
              · subst d2
                rw [sI_sI] at d3
                rw [d3] at e3
                refine w_thr (rfl) (e3) rfl ?_
                refine .inr ⟨e', ?_, rfl, rfl⟩
                rw [hp3, d1]
                rfl
            have hT2 : (gT (sI z 101 2 (nI b)) 101).1 = 1 := hT
            refine w_nx (pc' := 99) rfl ?_
            refine w_nx (pc' := 100) rfl ?_
            refine w_nx (pc' := 102) (S' := .int (nI 38) :: _) rfl ?_
            obtain ⟨o, z3, e3, ⟨k1, k2, k3⟩ | ⟨k1, k2, k3⟩⟩ := x_takes (d := d + 2) (ch := 38) h2 (by decide)
            · subst k2
              rw [sI_sI] at k3
              rw [k3] at e3
              refine w_cal (pc' := 105) rfl (a_cv0 rfl rfl rfl (hT2) rfl rfl) (e3) ?_
              refine w_nx (pc' := 107) rfl ?_
              refine w_nx (pc' := 109) rfl ?_
              refine w_ifne rfl rfl rfl (fun _ => ?_) (fun g => absurd (show ¬ nI 1 = 0 by decide) g)
              exact both 1 (.inl ⟨k1, rfl⟩) _
            · subst k2
              rw [k3] at e3
              refine w_cal (pc' := 105) rfl (a_cv0 rfl rfl rfl (hT2) rfl rfl) (e3) ?_
              refine w_nx (pc' := 107) rfl ?_
              refine w_nx (pc' := 109) rfl ?_
              refine w_ifne rfl rfl rfl (fun g => absurd rfl g) (fun _ => ?_)
              refine w_nx (pc' := 113) rfl ?_
              refine w_nx (pc' := 115) (S' := .int (nI 124) :: _) rfl ?_
              obtain ⟨o, z4, e4, ⟨m1, m2, m3⟩ | ⟨m1, m2, m3⟩⟩ := x_rtake (d := d + 1) (ch := 124) h2 (by decide)
              · subst m2
                rw [sI_sI] at m3
                rw [m3] at e4
                refine w_cal (pc' := 118) rfl (a_cv0 rfl rfl rfl (hT2) rfl rfl) (e4) ?_
                exact both 0 (.inr ⟨m1, rfl⟩) _
              · subst m2
                rw [m3] at e4
                refine w_thr (a_cv0 rfl rfl rfl (hT2) rfl rfl) (e4) rfl ?_
                refine .inr ⟨b, ?_, rfl, rfl⟩
                rw [hp2, if_neg (fun g => g.elim k1 m1)]
          · subst b2
            rw [sI_sI] at b3
            rw [b3] at e2
            refine w_thr (rfl) (e2) rfl ?_
            refine .inr ⟨e', ?_, rfl, rfl⟩
            rw [hp, b1]
            rfl
        · subst c5
          rw [c6] at e1
          refine w_thr (a_cv0 rfl rfl rfl (hT) rfl rfl) (e1) rfl ?_
          refine .inr ⟨a, ?_, rfl, by rw [sI_id h.2.2.2.2.2.2.2.1]⟩
          show (match lit (tx.getD a 0) with | some v => _ | none => _) = _
          rw [q1]
          show (if tx.getD a 0 = 33 then _ else _) = _
          rw [if_neg c1, if_neg c4]
theorem x_bool {tx : List Nat} : ∀ (f dep d a : Nat) (z : aSt), dep + f = 13 → rdr z tx a → aW (d + f + 4) 41 [.ref 101, .int (nI dep), .int (nI 0)] z (boolQ tx f a z)
  | 0, dep, d, a, z, hd, h => by
    have e : dep = 13 := by omega
    subst e
    exact x_bool0 (d := d + 2) h
  | f + 1, dep, d, a, z, hd, h => x_bool1 (d := d + f) (by omega) (fun a z h => x_bool f (dep + 1) d a z (by omega) h) h
