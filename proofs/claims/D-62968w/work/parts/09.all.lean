set_option maxRecDepth 100000
theorem aMOK_at {k : Nat} {m : aMi} (hk : k < 183) (h : aMs[k]? = some m) : aMOK m := by
  have H : ∀ m ∈ aMs.take 183, aMOK m := List.forall_mem_cons.mpr ⟨aK_X0_compile, List.forall_mem_cons.mpr ⟨aK_X0_size, List.forall_mem_cons.mpr ⟨aK_X0_next, List.forall_mem_cons.mpr ⟨aK_X0_output, List.forall_mem_cons.mpr ⟨aK_X0_begin, List.forall_mem_cons.mpr ⟨aK_X0_step, List.forall_mem_cons.mpr ⟨aK_X0_loop, List.forall_mem_cons.mpr ⟨aK_X1_init, List.forall_mem_cons.mpr ⟨aK_X1_text, List.forall_mem_cons.mpr ⟨aK_X1_wipe, List.forall_mem_cons.mpr ⟨aK_X1_fault, List.forall_mem_cons.mpr ⟨aK_X1_time, List.forall_mem_cons.mpr ⟨aK_X1_window, List.forall_mem_cons.mpr ⟨aK_X1_report, List.forall_mem_cons.mpr ⟨aK_X1_said, List.forall_mem_cons.mpr ⟨aK_X1_within, List.forall_mem_cons.mpr ⟨aK_X1_compile, List.forall_mem_cons.mpr ⟨aK_X1_reach, List.forall_mem_cons.mpr ⟨aK_X1_fail, List.forall_mem_cons.mpr ⟨aK_X1_part, List.forall_mem_cons.mpr ⟨aK_X1_alike, List.forall_mem_cons.mpr ⟨aK_X1_number, List.forall_mem_cons.mpr ⟨aK_X1_size, List.forall_mem_cons.mpr ⟨aK_X1_needCompiled, List.forall_mem_cons.mpr ⟨aK_X1_next, List.forall_mem_cons.mpr ⟨aK_X1_numberOf, List.forall_mem_cons.mpr ⟨aK_X1_output, List.forall_mem_cons.mpr ⟨aK_X1_begin, List.forall_mem_cons.mpr ⟨aK_X1_step, List.forall_mem_cons.mpr ⟨aK_X1_along, List.forall_mem_cons.mpr ⟨aK_X1_loop, List.forall_mem_cons.mpr ⟨aK_X2_init, List.forall_mem_cons.mpr ⟨aK_X2_whole, List.forall_mem_cons.mpr ⟨aK_X2_property, List.forall_mem_cons.mpr ⟨aK_X2_need, List.forall_mem_cons.mpr ⟨aK_X2_here, List.forall_mem_cons.mpr ⟨aK_X2_fresh, List.forall_mem_cons.mpr ⟨aK_X2_sequence, List.forall_mem_cons.mpr ⟨aK_X2_term, List.forall_mem_cons.mpr ⟨aK_X2_takes, List.forall_mem_cons.mpr ⟨aK_X2_take, List.forall_mem_cons.mpr ⟨aK_X2_bool, List.forall_mem_cons.mpr ⟨aK_X2_truthOf, List.forall_mem_cons.mpr ⟨aK_X2_digit, List.forall_mem_cons.mpr ⟨aK_J0_init, List.forall_mem_cons.mpr ⟨aK_J1_init, List.forall_mem_cons.mpr ⟨aK_J2_init, List.forall_mem_cons.mpr ⟨aK_J2_size, List.forall_mem_cons.mpr ⟨aK_J2_add, List.forall_mem_cons.mpr ⟨aK_J2_add_2, List.forall_mem_cons.mpr ⟨aK_J2_grow, List.forall_mem_cons.mpr ⟨aK_J2_grow_2, List.forall_mem_cons.mpr ⟨aK_J2_get, List.forall_mem_cons.mpr ⟨aK_J2_elementData, List.forall_mem_cons.mpr ⟨aK_X3_init, List.forall_mem_cons.mpr ⟨aK_X3_take, List.forall_mem_cons.mpr ⟨aK_X3_walk, List.forall_mem_cons.mpr ⟨aK_X3_fresh, List.forall_mem_cons.mpr ⟨aK_X3_lay, List.forall_mem_cons.mpr ⟨aK_X3_follow, List.forall_mem_cons.mpr ⟨aK_X3_place, List.forall_mem_cons.mpr ⟨aK_X3_lend, List.forall_mem_cons.mpr ⟨aK_X3_ask, List.forall_mem_cons.mpr ⟨aK_X3_pass, List.forall_mem_cons.mpr ⟨aK_X4_init, List.forall_mem_cons.mpr ⟨aK_X4_nothing, List.forall_mem_cons.mpr ⟨aK_X4_one, List.forall_mem_cons.mpr ⟨aK_X4_copy, List.forall_mem_cons.mpr ⟨aK_X4_impossible, List.forall_mem_cons.mpr ⟨aK_X4_and, List.forall_mem_cons.mpr ⟨aK_X4_add, List.forall_mem_cons.mpr ⟨aK_X4_or, List.forall_mem_cons.mpr ⟨aK_X4_same, List.forall_mem_cons.mpr ⟨aK_X5_init, List.forall_mem_cons.mpr ⟨aK_X5_first, List.forall_mem_cons.mpr ⟨aK_X6_init, List.forall_mem_cons.mpr ⟨aK_X7_init, List.forall_mem_cons.mpr ⟨aK_X7_plan, List.forall_mem_cons.mpr ⟨aK_X7_size, List.forall_mem_cons.mpr ⟨aK_X7_make, List.forall_mem_cons.mpr ⟨aK_X7_grow, List.forall_mem_cons.mpr ⟨aK_X7_wanted, List.forall_mem_cons.mpr ⟨aK_X7_gate, List.forall_mem_cons.mpr ⟨aK_X7_value, List.forall_mem_cons.mpr ⟨aK_X8_init, List.forall_mem_cons.mpr ⟨aK_X8_be, List.forall_mem_cons.mpr ⟨aK_X9_init, List.forall_mem_cons.mpr ⟨aK_X9_thrown, List.forall_mem_cons.mpr ⟨aK_X9_text, List.forall_mem_cons.mpr ⟨aK_X9_wipe, List.forall_mem_cons.mpr ⟨aK_X9_fault, List.forall_mem_cons.mpr ⟨aK_X9_compile, List.forall_mem_cons.mpr ⟨aK_X9_read, List.forall_mem_cons.mpr ⟨aK_X9_expect, List.forall_mem_cons.mpr ⟨aK_X9_take, List.forall_mem_cons.mpr ⟨aK_X9_now, List.forall_mem_cons.mpr ⟨aK_X9_sprout, List.forall_mem_cons.mpr ⟨aK_X9_literal, List.forall_mem_cons.mpr ⟨aK_X9_node, List.forall_mem_cons.mpr ⟨aK_X9_hang, List.forall_mem_cons.mpr ⟨aK_X9_piece, List.forall_mem_cons.mpr ⟨aK_X9_sequences, List.forall_mem_cons.mpr ⟨aK_X9_times, List.forall_mem_cons.mpr ⟨aK_X9_raise, List.forall_mem_cons.mpr ⟨aK_X9_collect, List.forall_mem_cons.mpr ⟨aK_X9_oblige, List.forall_mem_cons.mpr ⟨aK_X9_unroll, List.forall_mem_cons.mpr ⟨aK_X9_enter, List.forall_mem_cons.mpr ⟨aK_X9_list, List.forall_mem_cons.mpr ⟨aK_X9_follow, List.forall_mem_cons.mpr ⟨aK_X9_copy, List.forall_mem_cons.mpr ⟨aK_X9_place, List.forall_mem_cons.mpr ⟨aK_X9_push, List.forall_mem_cons.mpr ⟨aK_X9_gather, List.forall_mem_cons.mpr ⟨aK_X9_satisfied, List.forall_mem_cons.mpr ⟨aK_X9_asks, List.forall_mem_cons.mpr ⟨aK_X9_literally, List.forall_mem_cons.mpr ⟨aK_X9_has, List.forall_mem_cons.mpr ⟨aK_X9_places, List.forall_mem_cons.mpr ⟨aK_X9_isPlace, List.forall_mem_cons.mpr ⟨aK_X9_after, List.forall_mem_cons.mpr ⟨aK_X9_marked, List.forall_mem_cons.mpr ⟨aK_X9_known, List.forall_mem_cons.mpr ⟨aK_X9_fail, List.forall_mem_cons.mpr ⟨aK_X9_split, List.forall_mem_cons.mpr ⟨aK_X9_sortAt, List.forall_mem_cons.mpr ⟨aK_X9_number, List.forall_mem_cons.mpr ⟨aK_X9_count, List.forall_mem_cons.mpr ⟨aK_X9_wayOf, List.forall_mem_cons.mpr ⟨aK_X9_codeAfter, List.forall_mem_cons.mpr ⟨aK_X9_pair, List.forall_mem_cons.mpr ⟨aK_X9_size, List.forall_mem_cons.mpr ⟨aK_X9_next, List.forall_mem_cons.mpr ⟨aK_X9_output, List.forall_mem_cons.mpr ⟨aK_X9_begin, List.forall_mem_cons.mpr ⟨aK_X9_step, List.forall_mem_cons.mpr ⟨aK_X9_time, List.forall_mem_cons.mpr ⟨aK_X9_window, List.forall_mem_cons.mpr ⟨aK_X9_shortest, List.forall_mem_cons.mpr ⟨aK_X9_fails, List.forall_mem_cons.mpr ⟨aK_X9_loop, List.forall_mem_cons.mpr ⟨aK_X9_report, List.forall_mem_cons.mpr ⟨aK_X9_tellWord, List.forall_mem_cons.mpr ⟨aK_X9_tell, List.forall_mem_cons.mpr ⟨aK_X9_tellNumber, List.forall_mem_cons.mpr ⟨aK_X9_said, List.forall_mem_cons.mpr ⟨aK_X10_init, List.forall_mem_cons.mpr ⟨aK_X10_be, List.forall_mem_cons.mpr ⟨aK_X10_be_2, List.forall_mem_cons.mpr ⟨aK_J7_newLength, List.forall_mem_cons.mpr ⟨aK_J9_copyOfRange, List.forall_mem_cons.mpr ⟨aK_J9_copyOfRangeByte, List.forall_mem_cons.mpr ⟨aK_J9_checkLength, List.forall_mem_cons.mpr ⟨aK_J9_copyOf_2, List.forall_mem_cons.mpr ⟨aK_J9_copyOf_3, List.forall_mem_cons.mpr ⟨aK_J10_checkIndex, List.forall_mem_cons.mpr ⟨aK_J11_checkFromToIndex, List.forall_mem_cons.mpr ⟨aK_J11_checkFromIndexSize, List.forall_mem_cons.mpr ⟨aK_J11_checkIndex, List.forall_mem_cons.mpr ⟨aK_J18_length, List.forall_mem_cons.mpr ⟨aK_J18_coder, List.forall_mem_cons.mpr ⟨aK_J18_getBytes, List.forall_mem_cons.mpr ⟨aK_J18_init, List.forall_mem_cons.mpr ⟨aK_J18_init_2, List.forall_mem_cons.mpr ⟨aK_J18_charAt, List.forall_mem_cons.mpr ⟨aK_J18_isLatin1, List.forall_mem_cons.mpr ⟨aK_J19_init, List.forall_mem_cons.mpr ⟨aK_J19_append, List.forall_mem_cons.mpr ⟨aK_J19_ensureCapacityInternal, List.forall_mem_cons.mpr ⟨aK_J19_isLatin1, List.forall_mem_cons.mpr ⟨aK_J19_putStringAt, List.forall_mem_cons.mpr ⟨aK_J19_inflateIfNeededFor, List.forall_mem_cons.mpr ⟨aK_J19_append_2, List.forall_mem_cons.mpr ⟨aK_J19_getValue, List.forall_mem_cons.mpr ⟨aK_J19_length, List.forall_mem_cons.mpr ⟨aK_J20_init, List.forall_mem_cons.mpr ⟨aK_J20_append, List.forall_mem_cons.mpr ⟨aK_J20_append_2, List.forall_mem_cons.mpr ⟨aK_J20_toString, List.forall_mem_cons.mpr ⟨aK_J20_length, List.forall_mem_cons.mpr ⟨aK_J22_charAt, List.forall_mem_cons.mpr ⟨aK_J23_stringSize, List.forall_mem_cons.mpr ⟨aK_J23_getChars, fun _ h => absurd h List.not_mem_nil⟩⟩⟩⟩⟩⟩⟩⟩⟩⟩⟩⟩⟩⟩⟩⟩⟩⟩⟩⟩⟩⟩⟩⟩⟩⟩⟩⟩⟩⟩⟩⟩⟩⟩⟩⟩⟩⟩⟩⟩⟩⟩⟩⟩⟩⟩⟩⟩⟩⟩⟩⟩⟩⟩⟩⟩⟩⟩⟩⟩⟩⟩⟩⟩⟩⟩⟩⟩⟩⟩⟩⟩⟩⟩⟩⟩⟩⟩⟩⟩⟩⟩⟩⟩⟩⟩⟩⟩⟩⟩⟩⟩⟩⟩⟩⟩⟩⟩⟩⟩⟩⟩⟩⟩⟩⟩⟩⟩⟩⟩⟩⟩⟩⟩⟩⟩⟩⟩⟩⟩⟩⟩⟩⟩⟩⟩⟩⟩⟩⟩⟩⟩⟩⟩⟩⟩⟩⟩⟩⟩⟩⟩⟩⟩⟩⟩⟩⟩⟩⟩⟩⟩⟩⟩⟩⟩⟩⟩⟩⟩⟩⟩⟩⟩⟩⟩⟩⟩⟩⟩⟩⟩⟩⟩⟩⟩⟩⟩⟩⟩⟩⟩⟩
  refine H m (List.mem_of_getElem? (i := k) ?_)
  rw [List.getElem?_take_of_lt hk]
  exact h
theorem aTy_ok : ∀ (t : Nat) (q : vw_C), aCl[t]? = some q → ∀ k, k < q.2.2 → parseFieldDescriptor (q.2.1 k).2.2.1 = some (aTy t k) ∧ (q.2.1 k).2.2.2 = (aFin_ t).getD k true := by
  intro t q h
  match t, h with
  | 0, h => cases h; decide +kernel
  | 1, h => cases h; decide +kernel
  | 2, h => cases h; decide +kernel
  | 3, h => cases h; decide +kernel
  | 4, h => cases h; decide +kernel
  | 5, h => cases h; decide +kernel
  | 6, h => cases h; decide +kernel
  | 7, h => cases h; decide +kernel
  | 8, h => cases h; decide +kernel
  | 9, h => cases h; decide +kernel
  | 10, h => cases h; decide +kernel
  | 11, h => cases h; decide +kernel
  | 12, h => cases h; decide +kernel
  | 13, h => cases h; decide +kernel
  | 14, h => cases h; decide +kernel
  | 15, h => cases h; decide +kernel
  | 16, h => cases h; decide +kernel
  | 17, h => cases h; decide +kernel
  | t + 18, h => simp [aCl] at h
theorem aWs_sub {C : String} {T : u_T} {N M : Nat} (h : N ≤ M) {w : Cond} (hw : w ∈ u_ws C T N) : w ∈ u_ws C T M := by
  obtain ⟨k, hk, rfl⟩ := List.mem_map.mp hw
  exact List.mem_map.mpr ⟨k, List.mem_range.mpr (Nat.lt_of_lt_of_le (List.mem_range.mp hk) h), rfl⟩
theorem aNm_ok : ∀ (t : Nat) (q : vw_C), aCl[t]? = some q → (∀ a, a < q.2.2 → ∀ b, b < q.2.2 → a ≠ b → (q.2.1 a).2.1 ≠ (q.2.1 b).2.1) ∧ (∀ w ∈ u_ws q.1 q.2.1 q.2.2, w ∈ lw_all) ∧ (∀ k, k < q.2.2 → (aFin_ t).getD k true = true → (q.2.1 k).1 = aOwn (aTgO t)) := by
  intro t q h
  match t, h with
  | 0, h => cases h; exact ⟨nmX1, in_X1, by decide +kernel⟩
  | 1, h => cases h; exact ⟨nmX2, in_X2, by decide +kernel⟩
  | 2, h => cases h; exact ⟨nmJ2, in_J2, by decide +kernel⟩
  | 3, h => cases h; exact ⟨nmX3, in_X3, by decide +kernel⟩
  | 4, h => cases h; exact ⟨nmX4, in_X4, by decide +kernel⟩
  | 5, h => cases h; exact ⟨nmX5, in_X5, by decide +kernel⟩
  | 6, h => cases h; exact ⟨nmX6, in_X6, by decide +kernel⟩
  | 7, h => cases h; exact ⟨nmX7, in_X7, by decide +kernel⟩
  | 8, h => cases h; exact ⟨nmX8, in_X8, by decide +kernel⟩
  | 9, h => cases h; exact ⟨nmX9, in_X9, by decide +kernel⟩
  | 10, h => cases h; exact ⟨nmX10, in_X10, by decide +kernel⟩
  | 11, h => cases h; exact ⟨nmJ20, in_J20, by decide +kernel⟩
  | 12, h => cases h; exact ⟨by decide +kernel, (fun w h => in_J18 w (aWs_sub (by decide) h)), by decide +kernel⟩
  | 13, h => cases h; exact ⟨by decide +kernel, (fun w h => by cases h), by decide +kernel⟩
  | 14, h => cases h; exact ⟨by decide +kernel, (fun w h => by cases h), by decide +kernel⟩
  | 15, h => cases h; exact ⟨by decide +kernel, (fun w h => by cases h), by decide +kernel⟩
  | 16, h => cases h; exact ⟨by decide +kernel, (fun w h => by cases h), by decide +kernel⟩
  | 17, h => cases h; exact ⟨by decide +kernel, (fun w h => by cases h), by decide +kernel⟩
  | t + 18, h => simp [aCl] at h
theorem aIn_ok : ∀ (t : Nat) (q : vw_C), aCl[t]? = some q → ∃ n, Cond.instantiable q.1 n ∈ lw_all := by
  intro t q h
  match t, h with
  | 0, h => cases h; exact ⟨_, q102⟩
  | 1, h => cases h; exact ⟨_, q110⟩
  | 2, h => cases h; exact ⟨_, q116⟩
  | 3, h => cases h; exact ⟨_, q162⟩
  | 4, h => cases h; exact ⟨_, q173⟩
  | 5, h => cases h; exact ⟨_, q222⟩
  | 6, h => cases h; exact ⟨_, q229⟩
  | 7, h => cases h; exact ⟨_, q258⟩
  | 8, h => cases h; exact ⟨_, q264⟩
  | 9, h => cases h; exact ⟨_, q1238⟩
  | 10, h => cases h; exact ⟨_, q797⟩
  | 11, h => cases h; exact ⟨_, q406⟩
  | 12, h => cases h; exact ⟨_, q587⟩
  | 13, h => cases h; exact ⟨_, q619⟩
  | 14, h => cases h; exact ⟨_, q975⟩
  | 15, h => cases h; exact ⟨_, q1097⟩
  | 16, h => cases h; exact ⟨_, q1146⟩
  | 17, h => cases h; exact ⟨_, q1190⟩
  | t + 18, h => simp [aCl] at h
