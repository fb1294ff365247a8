/-! SOUNDNESS, 8: what is known of the tables goes along -/
theorem aLS_moved {A : Nat → Prop} {s U : State} {o n d : String} (hW : s.WarmedH U.vm) (hA : ∀ a : Nat, a < s.heap.size → ¬ A a → U.heap[a]? = s.heap[a]?) (h : (Cond.laysStatic o n d).before #[] s = true) (hz : va_Zq o n d A s s.heap) : (Cond.laysStatic o n d).before #[] U = true := by
  obtain ⟨c, k, i, f, a, cell, hc, hi, hst, ha, hcell, hs, hcls, hlt, hty⟩ := Cond.laysStatic_spec h
  have hna : ¬ A a := by
    rcases hz with ⟨cf, kf, fi, f9, a9, cell9, z1, z2, z3, z4, z5, z6, z7, z8⟩ | ⟨t, cf, kf, fi, f9, a9, cell9, z1, z2, z3, z4, z5, z6, z7, z8⟩
    · cases hi.symm.trans z1
      cases ha.symm.trans z4
      exact z8
    · cases hi.symm.trans z1
      cases ha.symm.trans z4
      exact z8
  obtain ⟨k', hi', hek⟩ := State.fieldFound?_setVm hW.alike hi
  have hi2 : U.fieldFound? o n d = some (c, k', i, f) := hi'
  exact Cond.laysStatic_of (s := U) (by rw [hW.alike.findClass]; exact hc) hi2 hst (by rw [hek]; exact ha) (by rw [hA a (Array.getElem?_eq_some_iff.mp hcell).1 hna]; exact hcell) hs hcls hlt (by rw [hek]; exact hty)
theorem aKV.moved {D : aD} {s U : State} (hW : s.WarmedH U.vm) (hA : ∀ a : Nat, a < s.heap.size → ¬ aA D a → U.heap[a]? = s.heap[a]?) (h : aKV D s) : aKV D U := by
  obtain ⟨h1, h2, h3, h4, h5, h6, h7, h8, h9, h10, h11, w1, w2, w3, w4, w5, w6, w7, w8⟩ := h
  refine ⟨fun w hw => word_at hW (lw_self w hw).2 (h1 w hw), fun q hq => va_Nw.warmF hW (h2 q hq), fun q hq => va_Nw.warmM hW (h3 q hq), va_K.moved hW.alike h4, fun t a b => (h5 t a b).moved hW.alike, fun C hC => va_AO.moved hW.alike (h6 C hC), fun C hC => va_Nw.warmC hW (h7 C hC),
    fun q hq => (va_Z.moved hW.alike (h8 q hq)).kept hA, fun q hq => vk_R.warm hW (h9 q hq), h10, h11, (va_Ec.moved hW.alike w1).kept hA, fun q hq => ⟨aLS_moved hW hA (w2 q hq).1 (w2 q hq).2, (va_Zq.moved hW.alike (w2 q hq).2).kept hA⟩, fun x hx => va_Nw.warmD hW (w3 x hx), fun C T hC => va_Nw.warmC hW (w4 C T hC),
    fun t t' a b c => by rw [hW.alike.assignable]; exact w5 t t' a b c, va_Mi.moved hW.alike w6, fun y hy => word_at hW (Or.inl rfl) (w7 y hy), fun t a b => (w8 t a b).moved hW.alike⟩
