/-! THE START: the abstract memory at the law's entry -/
set_option maxRecDepth 100000
abbrev sIx : List Nat := [75, 223, 228, 241, 243, 245, 247]
abbrev sLn : List Nat := [0, 4, 6, 7, 4, 4, 4]
abbrev sBy : List (List Int32) := [[], [110, 111, 110, 101], [114, 101, 97, 100, 121, 32], [102, 97, 105, 108, 101, 100, 32], [32, 98, 121, 32], [114, 117, 110, 32], [32, 105, 110, 32]]
def aT0 (n : Nat) : Nat → Nat × Nat := fun a => match a with
  | 13 => (49, 0) | 14 => (51, 100) | 15 => (52, 100)
  | 20 => (12, 0) | 21 => (53, 0) | 22 => (12, 0) | 23 => (54, 4) | 24 => (12, 0) | 25 => (55, 6) | 26 => (12, 0) | 27 => (56, 7) | 28 => (12, 0) | 29 => (57, 4) | 30 => (12, 0) | 31 => (58, 4) | 32 => (12, 0) | 33 => (59, 4)
  | 40 => (50, n)
  | _ => (99, 0)
def aI0 (xs : Nat → Int32) : Nat → Nat → Int32 := fun a k => match a with
  | 14 => nI (48 + k / 10) | 15 => nI (48 + k % 10)
  | 23 => (sBy.getD 1 []).getD k 0 | 25 => (sBy.getD 2 []).getD k 0 | 27 => (sBy.getD 3 []).getD k 0 | 29 => (sBy.getD 4 []).getD k 0 | 31 => (sBy.getD 5 []).getD k 0 | 33 => (sBy.getD 6 []).getD k 0
  | 40 => xs k
  | _ => 0
def aR0 : Nat → Nat → Option Nat := fun a k => match k with
  | 0 => (match a with
    | 20 => some 21 | 22 => some 23 | 24 => some 25 | 26 => some 27 | 28 => some 29 | 30 => some 31 | 32 => some 33
    | _ => none)
  | _ => none
def aZ0 (n : Nat) (xs : Nat → Int32) : aSt := (aT0 n, aI0 xs, fun _ _ => 0, aR0, 0, 0)
abbrev aFl : List Cond := flatC (Jvm.Cond.and given_1 narrow_1)
/-- the facts stand at these places -/
def aAtF (k : Nat) (w : Cond) : Prop := aFl[k]? = some w
theorem aAtF.mem {k : Nat} {w : Cond} (h : aAtF k w) : w ∈ aFl := List.mem_of_getElem? h
theorem st_ones0 : ∀ i, 0 ≤ i → i < 25 → aFl[16 + i]? = some (Cond.eq (.elem (.static "java/lang/Integer" "DigitOnes" "[B") (.int (Int32.ofNat i))) (.int (nI (48 + i % 10)))) := by
  have h : ∀ i, i < 25 → aFl[16 + (0 + i)]? = some (Cond.eq (.elem (.static "java/lang/Integer" "DigitOnes" "[B") (.int (Int32.ofNat (0 + i)))) (.int (nI (48 + (0 + i) % 10)))) := by decide +kernel
  intro i h1 h2
  have := h (i - 0) (by omega)
  rwa [show 0 + (i - 0) = i by omega] at this
theorem st_ones1 : ∀ i, 25 ≤ i → i < 50 → aFl[16 + i]? = some (Cond.eq (.elem (.static "java/lang/Integer" "DigitOnes" "[B") (.int (Int32.ofNat i))) (.int (nI (48 + i % 10)))) := by
  have h : ∀ i, i < 25 → aFl[16 + (25 + i)]? = some (Cond.eq (.elem (.static "java/lang/Integer" "DigitOnes" "[B") (.int (Int32.ofNat (25 + i)))) (.int (nI (48 + (25 + i) % 10)))) := by decide +kernel
  intro i h1 h2
  have := h (i - 25) (by omega)
  rwa [show 25 + (i - 25) = i by omega] at this
theorem st_ones2 : ∀ i, 50 ≤ i → i < 75 → aFl[16 + i]? = some (Cond.eq (.elem (.static "java/lang/Integer" "DigitOnes" "[B") (.int (Int32.ofNat i))) (.int (nI (48 + i % 10)))) := by
  have h : ∀ i, i < 25 → aFl[16 + (50 + i)]? = some (Cond.eq (.elem (.static "java/lang/Integer" "DigitOnes" "[B") (.int (Int32.ofNat (50 + i)))) (.int (nI (48 + (50 + i) % 10)))) := by decide +kernel
  intro i h1 h2
  have := h (i - 50) (by omega)
  rwa [show 50 + (i - 50) = i by omega] at this
theorem st_ones3 : ∀ i, 75 ≤ i → i < 100 → aFl[16 + i]? = some (Cond.eq (.elem (.static "java/lang/Integer" "DigitOnes" "[B") (.int (Int32.ofNat i))) (.int (nI (48 + i % 10)))) := by
  have h : ∀ i, i < 25 → aFl[16 + (75 + i)]? = some (Cond.eq (.elem (.static "java/lang/Integer" "DigitOnes" "[B") (.int (Int32.ofNat (75 + i)))) (.int (nI (48 + (75 + i) % 10)))) := by decide +kernel
  intro i h1 h2
  have := h (i - 75) (by omega)
  rwa [show 75 + (i - 75) = i by omega] at this
theorem st_ones : ∀ j, j < 100 → Cond.eq (.elem (.static "java/lang/Integer" "DigitOnes" "[B") (.int (Int32.ofNat j))) (.int (nI (48 + j % 10))) ∈ aFl := by
  intro j hj
  by_cases h1 : j < 25
  · exact List.mem_of_getElem? (st_ones0 j (by omega) h1)
  · by_cases h2 : j < 50
    · exact List.mem_of_getElem? (st_ones1 j (by omega) h2)
    · by_cases h3 : j < 75
      · exact List.mem_of_getElem? (st_ones2 j (by omega) h3)
      · exact List.mem_of_getElem? (st_ones3 j (by omega) hj)
theorem st_tens0 : ∀ i, 0 ≤ i → i < 25 → aFl[119 + i]? = some (Cond.eq (.elem (.static "java/lang/Integer" "DigitTens" "[B") (.int (Int32.ofNat i))) (.int (nI (48 + i / 10)))) := by
  have h : ∀ i, i < 25 → aFl[119 + (0 + i)]? = some (Cond.eq (.elem (.static "java/lang/Integer" "DigitTens" "[B") (.int (Int32.ofNat (0 + i)))) (.int (nI (48 + (0 + i) / 10)))) := by decide +kernel
  intro i h1 h2
  have := h (i - 0) (by omega)
  rwa [show 0 + (i - 0) = i by omega] at this
theorem st_tens1 : ∀ i, 25 ≤ i → i < 50 → aFl[119 + i]? = some (Cond.eq (.elem (.static "java/lang/Integer" "DigitTens" "[B") (.int (Int32.ofNat i))) (.int (nI (48 + i / 10)))) := by
  have h : ∀ i, i < 25 → aFl[119 + (25 + i)]? = some (Cond.eq (.elem (.static "java/lang/Integer" "DigitTens" "[B") (.int (Int32.ofNat (25 + i)))) (.int (nI (48 + (25 + i) / 10)))) := by decide +kernel
  intro i h1 h2
  have := h (i - 25) (by omega)
  rwa [show 25 + (i - 25) = i by omega] at this
theorem st_tens2 : ∀ i, 50 ≤ i → i < 75 → aFl[119 + i]? = some (Cond.eq (.elem (.static "java/lang/Integer" "DigitTens" "[B") (.int (Int32.ofNat i))) (.int (nI (48 + i / 10)))) := by
  have h : ∀ i, i < 25 → aFl[119 + (50 + i)]? = some (Cond.eq (.elem (.static "java/lang/Integer" "DigitTens" "[B") (.int (Int32.ofNat (50 + i)))) (.int (nI (48 + (50 + i) / 10)))) := by decide +kernel
  intro i h1 h2
  have := h (i - 50) (by omega)
  rwa [show 50 + (i - 50) = i by omega] at this
theorem st_tens3 : ∀ i, 75 ≤ i → i < 100 → aFl[119 + i]? = some (Cond.eq (.elem (.static "java/lang/Integer" "DigitTens" "[B") (.int (Int32.ofNat i))) (.int (nI (48 + i / 10)))) := by
  have h : ∀ i, i < 25 → aFl[119 + (75 + i)]? = some (Cond.eq (.elem (.static "java/lang/Integer" "DigitTens" "[B") (.int (Int32.ofNat (75 + i)))) (.int (nI (48 + (75 + i) / 10)))) := by decide +kernel
  intro i h1 h2
  have := h (i - 75) (by omega)
  rwa [show 75 + (i - 75) = i by omega] at this
theorem st_tens : ∀ j, j < 100 → Cond.eq (.elem (.static "java/lang/Integer" "DigitTens" "[B") (.int (Int32.ofNat j))) (.int (nI (48 + j / 10))) ∈ aFl := by
  intro j hj
  by_cases h1 : j < 25
  · exact List.mem_of_getElem? (st_tens0 j (by omega) h1)
  · by_cases h2 : j < 50
    · exact List.mem_of_getElem? (st_tens1 j (by omega) h2)
    · by_cases h3 : j < 75
      · exact List.mem_of_getElem? (st_tens2 j (by omega) h3)
      · exact List.mem_of_getElem? (st_tens3 j (by omega) hj)
theorem st_ke : ∀ i, i < 13 → aFl[([311, 221, 223, 256, 265, 275, 286, 298, 230, 248, 226, 241, 235] : List Nat).getD i 0]? = some (Cond.exactly (.static "TraceWarden$Kind" (aKinds.getD i "") "LTraceWarden$Kind;") "TraceWarden$Kind") := by decide +kernel
theorem st_ko : ∀ i, i < 13 → aFl[([312, 222, 224, 257, 266, 276, 287, 299, 231, 249, 227, 242, 236] : List Nat).getD i 0]? = some (Cond.eq (.field (.static "TraceWarden$Kind" (aKinds.getD i "") "LTraceWarden$Kind;") "java/lang/Enum" "ordinal" "I") (.int (aOrds.getD i 0))) := by decide +kernel
theorem st_kind : ∀ i, i < 13 → Cond.exactly (.static "TraceWarden$Kind" (aKinds.getD i "") "LTraceWarden$Kind;") "TraceWarden$Kind" ∈ aFl ∧ Cond.eq (.field (.static "TraceWarden$Kind" (aKinds.getD i "") "LTraceWarden$Kind;") "java/lang/Enum" "ordinal" "I") (.int (aOrds.getD i 0)) ∈ aFl := fun i hi => ⟨List.mem_of_getElem? (st_ke i hi), List.mem_of_getElem? (st_ko i hi)⟩
abbrev aKne : List (Nat × Nat × Nat) := [(1, 0, 313), (1, 2, 225), (1, 3, 258), (1, 4, 267), (1, 5, 277), (1, 6, 288), (1, 7, 300), (1, 8, 232), (1, 9, 250), (1, 10, 228), (1, 11, 243), (1, 12, 237), (2, 0, 314), (2, 3, 259), (2, 4, 268), (2, 5, 278), (2, 6, 289), (2, 7, 301), (2, 8, 233), (2, 9, 251), (2, 10, 229), (2, 11, 244), (2, 12, 238), (3, 0, 320), (3, 4, 274), (3, 5, 284), (3, 6, 295), (3, 7, 307), (4, 0, 321), (4, 5, 285), (4, 6, 296), (4, 7, 308), (5, 0, 322), (5, 6, 297), (5, 7, 309), (6, 0, 323), (6, 7, 310), (7, 0, 324), (8, 0, 316), (8, 3, 261), (8, 4, 270), (8, 5, 280), (8, 6, 291), (8, 7, 303), (8, 9, 253), (8, 11, 246), (8, 12, 240), (9, 0, 319), (9, 3, 264), (9, 4, 273), (9, 5, 283), (9, 6, 294), (9, 7, 306), (10, 0, 315), (10, 3, 260), (10, 4, 269), (10, 5, 279), (10, 6, 290), (10, 7, 302), (10, 8, 234), (10, 9, 252), (10, 11, 245), (10, 12, 239), (11, 0, 318), (11, 3, 263), (11, 4, 272), (11, 5, 282), (11, 6, 293), (11, 7, 305), (11, 9, 255), (12, 0, 317), (12, 3, 262), (12, 4, 271), (12, 5, 281), (12, 6, 292), (12, 7, 304), (12, 9, 254), (12, 11, 247)]
theorem st_kne0 : ∀ q ∈ (aKne.drop 0).take 26, aFl[q.2.2]? = some (Cond.not (.eq (.static "TraceWarden$Kind" (aKinds.getD q.1 "") "LTraceWarden$Kind;") (.static "TraceWarden$Kind" (aKinds.getD q.2.1 "") "LTraceWarden$Kind;"))) := by decide +kernel
theorem st_kne1 : ∀ q ∈ (aKne.drop 26).take 26, aFl[q.2.2]? = some (Cond.not (.eq (.static "TraceWarden$Kind" (aKinds.getD q.1 "") "LTraceWarden$Kind;") (.static "TraceWarden$Kind" (aKinds.getD q.2.1 "") "LTraceWarden$Kind;"))) := by decide +kernel
theorem st_kne2 : ∀ q ∈ (aKne.drop 52).take 26, aFl[q.2.2]? = some (Cond.not (.eq (.static "TraceWarden$Kind" (aKinds.getD q.1 "") "LTraceWarden$Kind;") (.static "TraceWarden$Kind" (aKinds.getD q.2.1 "") "LTraceWarden$Kind;"))) := by decide +kernel
theorem st_kneA : ∀ q ∈ aKne, Cond.not (.eq (.static "TraceWarden$Kind" (aKinds.getD q.1 "") "LTraceWarden$Kind;") (.static "TraceWarden$Kind" (aKinds.getD q.2.1 "") "LTraceWarden$Kind;")) ∈ aFl := by
  intro q hq
  have : aKne = (aKne.drop 0).take 26 ++ ((aKne.drop 26).take 26 ++ (aKne.drop 52).take 26) := rfl
  rw [this] at hq
  rcases List.mem_append.mp hq with h | h
  · exact List.mem_of_getElem? (st_kne0 q h)
  · rcases List.mem_append.mp h with h | h
    · exact List.mem_of_getElem? (st_kne1 q h)
    · exact List.mem_of_getElem? (st_kne2 q h)
theorem st_kne : ∀ i, i < 13 → ∀ j, j < 13 → i ≠ j → Cond.not (.eq (.static "TraceWarden$Kind" (aKinds.getD i "") "LTraceWarden$Kind;") (.static "TraceWarden$Kind" (aKinds.getD j "") "LTraceWarden$Kind;")) ∈ aFl ∨ Cond.not (.eq (.static "TraceWarden$Kind" (aKinds.getD j "") "LTraceWarden$Kind;") (.static "TraceWarden$Kind" (aKinds.getD i "") "LTraceWarden$Kind;")) ∈ aFl := by
  intro i hi j hj hij
  have h : ∀ i, i < 13 → ∀ j, j < 13 → i ≠ j → (aKne.any (fun q => Nat.beq q.1 i && Nat.beq q.2.1 j) || aKne.any (fun q => Nat.beq q.1 j && Nat.beq q.2.1 i)) = true := by decide +kernel
  have h1 := h i hi j hj hij
  simp only [Bool.or_eq_true, List.any_eq_true, Bool.and_eq_true] at h1
  rcases h1 with ⟨q, hq, e1, e2⟩ | ⟨q, hq, e1, e2⟩
  · have := st_kneA q hq
    rw [Nat.eq_of_beq_eq_true e1, Nat.eq_of_beq_eq_true e2] at this
    exact Or.inl this
  · have := st_kneA q hq
    rw [Nat.eq_of_beq_eq_true e1, Nat.eq_of_beq_eq_true e2] at this
    exact Or.inr this
theorem st_str0 : ∀ i, i < 7 → aFl[([420, 424, 433, 455, 470, 483, 497] : List Nat).getD i 0]? = some (Cond.exactly (.string "TraceWarden" (sIx.getD i 0)) "java/lang/String") := by decide +kernel
theorem st_str1 : ∀ i, i < 7 → aFl[([421, 425, 434, 456, 471, 484, 498] : List Nat).getD i 0]? = some (Cond.eq (.field (.string "TraceWarden" (sIx.getD i 0)) "java/lang/String" "coder" "B") (.int 0)) := by decide +kernel
theorem st_str2 : ∀ i, i < 7 → aFl[([422, 426, 435, 457, 472, 485, 499] : List Nat).getD i 0]? = some (Cond.arrayOf (.field (.string "TraceWarden" (sIx.getD i 0)) "java/lang/String" "value" "[B") .byte) := by decide +kernel
theorem st_str3 : ∀ i, i < 7 → aFl[([423, 427, 436, 458, 473, 486, 500] : List Nat).getD i 0]? = some (Cond.eq (.length (.field (.string "TraceWarden" (sIx.getD i 0)) "java/lang/String" "value" "[B")) (.int (Int32.ofNat (sLn.getD i 0)))) := by decide +kernel
theorem st_str : ∀ i, i < 7 → Cond.exactly (.string "TraceWarden" (sIx.getD i 0)) "java/lang/String" ∈ aFl ∧ Cond.eq (.field (.string "TraceWarden" (sIx.getD i 0)) "java/lang/String" "coder" "B") (.int 0) ∈ aFl ∧ Cond.arrayOf (.field (.string "TraceWarden" (sIx.getD i 0)) "java/lang/String" "value" "[B") .byte ∈ aFl ∧ Cond.eq (.length (.field (.string "TraceWarden" (sIx.getD i 0)) "java/lang/String" "value" "[B")) (.int (Int32.ofNat (sLn.getD i 0))) ∈ aFl := fun i hi => ⟨List.mem_of_getElem? (st_str0 i hi), List.mem_of_getElem? (st_str1 i hi), List.mem_of_getElem? (st_str2 i hi), List.mem_of_getElem? (st_str3 i hi)⟩
theorem st_byt0 : ∀ i, i < 7 → ∀ j, j < sLn.getD i 0 → aFl[([0, 428, 437, 459, 474, 487, 501] : List Nat).getD i 0 + j]? = some (Cond.eq (.elem (.field (.string "TraceWarden" (sIx.getD i 0)) "java/lang/String" "value" "[B") (.int (Int32.ofNat j))) (.int ((sBy.getD i []).getD j 0))) := by decide +kernel
theorem st_byt : ∀ i, i < 7 → ∀ j, j < sLn.getD i 0 → Cond.eq (.elem (.field (.string "TraceWarden" (sIx.getD i 0)) "java/lang/String" "value" "[B") (.int (Int32.ofNat j))) (.int ((sBy.getD i []).getD j 0)) ∈ aFl := fun i hi j hj => List.mem_of_getElem? (st_byt0 i hi j hj)
abbrev aSne : List (Nat × Nat × Nat) := [(0, 1, 432), (0, 2, 443), (0, 3, 466), (0, 4, 478), (0, 5, 491), (0, 6, 505), (1, 2, 444), (1, 3, 467), (1, 4, 479), (1, 5, 492), (1, 6, 506), (2, 3, 468), (2, 4, 480), (2, 5, 493), (2, 6, 507), (3, 4, 482), (3, 5, 495), (3, 6, 509), (4, 5, 496), (4, 6, 510), (5, 6, 511)]
theorem st_sne0 : ∀ q ∈ aSne, aFl[q.2.2]? = some (Cond.not (.eq (.string "TraceWarden" (sIx.getD q.1 0)) (.string "TraceWarden" (sIx.getD q.2.1 0)))) := by decide +kernel
theorem st_sneA : ∀ q ∈ aSne, Cond.not (.eq (.string "TraceWarden" (sIx.getD q.1 0)) (.string "TraceWarden" (sIx.getD q.2.1 0))) ∈ aFl := fun q hq => List.mem_of_getElem? (st_sne0 q hq)
theorem st_sne : ∀ i, i < 7 → ∀ j, j < 7 → i ≠ j → Cond.not (.eq (.string "TraceWarden" (sIx.getD i 0)) (.string "TraceWarden" (sIx.getD j 0))) ∈ aFl ∨ Cond.not (.eq (.string "TraceWarden" (sIx.getD j 0)) (.string "TraceWarden" (sIx.getD i 0))) ∈ aFl := by
  intro i hi j hj hij
  have h : ∀ i, i < 7 → ∀ j, j < 7 → i ≠ j → (aSne.any (fun q => Nat.beq q.1 i && Nat.beq q.2.1 j) || aSne.any (fun q => Nat.beq q.1 j && Nat.beq q.2.1 i)) = true := by decide +kernel
  have h1 := h i hi j hj hij
  simp only [Bool.or_eq_true, List.any_eq_true, Bool.and_eq_true] at h1
  rcases h1 with ⟨q, hq, e1, e2⟩ | ⟨q, hq, e1, e2⟩
  · have := st_sneA q hq
    rw [Nat.eq_of_beq_eq_true e1, Nat.eq_of_beq_eq_true e2] at this
    exact Or.inl this
  · have := st_sneA q hq
    rw [Nat.eq_of_beq_eq_true e1, Nat.eq_of_beq_eq_true e2] at this
    exact Or.inr this
abbrev aNca : List (Nat × Nat × Nat) := [(13, 14, 354), (13, 15, 373), (13, 16, 392), (13, 17, 411), (14, 13, 337), (14, 15, 376), (14, 16, 395), (14, 17, 414), (15, 13, 338), (15, 14, 357), (15, 16, 396), (15, 17, 415), (16, 13, 339), (16, 14, 358), (16, 15, 377), (16, 17, 416), (17, 13, 341), (17, 14, 360), (17, 15, 379), (17, 16, 398)]
theorem st_nca0 : ∀ q ∈ aNca, aFl[q.2.2]? = some (Cond.not (.castable (aXN q.1) (aXN q.2.1))) := by decide +kernel
theorem st_nca : ∀ t, t < 18 → ∀ t', t' < 18 → aExT t = true → aExT t' = true → t ≠ t' → Cond.not (.castable (aXN t) (aXN t')) ∈ aFl := by
  intro t ht t' ht' h1 h2 h3
  have h : ∀ t, t < 18 → ∀ t', t' < 18 → (aExT t && aExT t' && !(Nat.beq t t')) = true → aNca.any (fun q => Nat.beq q.1 t && Nat.beq q.2.1 t') = true := by decide +kernel
  have h4 := h t ht t' ht' (by rw [h1, h2]; cases he : Nat.beq t t' with | false => rfl | true => exact absurd (Nat.eq_of_beq_eq_true he) h3)
  simp only [List.any_eq_true, Bool.and_eq_true] at h4
  obtain ⟨q, hq, e1, e2⟩ := h4
  have := List.mem_of_getElem? (st_nca0 q hq)
  rw [Nat.eq_of_beq_eq_true e1, Nat.eq_of_beq_eq_true e2] at this
  exact this
theorem st_ref : ∀ q ∈ aTS, Cond.isRef (.static q.1 q.2.1 q.2.2) ∈ aFl := List.forall_mem_cons.mpr ⟨List.mem_of_getElem? (show aFl[219]? = _ by decide +kernel), List.forall_mem_cons.mpr ⟨List.mem_of_getElem? (show aFl[220]? = _ by decide +kernel), List.forall_mem_cons.mpr ⟨List.mem_of_getElem? (show aFl[9]? = _ by decide +kernel), fun _ h => absurd h List.not_mem_nil⟩⟩⟩
theorem st_misc : Cond.isRef (.mirror "[Ljava/lang/Object;") ∈ aFl ∧ Cond.exactly (.static "java/util/ArrayList" "DEFAULTCAPACITY_EMPTY_ELEMENTDATA" "[Ljava/lang/Object;") "[Ljava/lang/Object;" ∈ aFl ∧ Cond.arrayOf (.static "java/util/ArrayList" "DEFAULTCAPACITY_EMPTY_ELEMENTDATA" "[Ljava/lang/Object;") (.object "java/lang/Object") ∈ aFl ∧ Cond.eq (.length (.static "java/util/ArrayList" "DEFAULTCAPACITY_EMPTY_ELEMENTDATA" "[Ljava/lang/Object;")) (.int 0) ∈ aFl ∧ Cond.eq (.static "java/lang/String" "COMPACT_STRINGS" "Z") (.int 1) ∈ aFl ∧ Cond.arrayOf (.static "java/lang/Integer" "DigitOnes" "[B") .byte ∈ aFl ∧ Cond.arrayOf (.static "java/lang/Integer" "DigitTens" "[B") .byte ∈ aFl ∧ Cond.eq (.length (.static "java/lang/Integer" "DigitOnes" "[B")) (.int (Int32.ofNat 100)) ∈ aFl ∧ Cond.eq (.length (.static "java/lang/Integer" "DigitTens" "[B")) (.int (Int32.ofNat 100)) ∈ aFl := ⟨List.mem_of_getElem? (show aFl[419]? = _ by decide +kernel), List.mem_of_getElem? (show aFl[6]? = _ by decide +kernel), List.mem_of_getElem? (show aFl[5]? = _ by decide +kernel), List.mem_of_getElem? (show aFl[7]? = _ by decide +kernel), List.mem_of_getElem? (show aFl[8]? = _ by decide +kernel), List.mem_of_getElem? (show aFl[14]? = _ by decide +kernel), List.mem_of_getElem? (show aFl[117]? = _ by decide +kernel), List.mem_of_getElem? (show aFl[15]? = _ by decide +kernel), List.mem_of_getElem? (show aFl[118]? = _ by decide +kernel)⟩
