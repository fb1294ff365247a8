/-! CHAINS: the sets of nine lie in 126 chains (by program) -/
set_option maxRecDepth 100000
def chs : List (List Nat) := [[0, 256, 384, 448, 480, 496, 504, 508, 510, 511], [1, 257, 385, 449, 481, 497, 505, 509], [2, 258, 386, 450, 482, 498, 506, 507], [3, 259, 387, 451, 483, 499], [4, 260, 388, 452, 484, 500, 502, 503], [5, 261, 389, 453, 485, 501], [6, 262, 390, 454, 486, 487], [7, 263, 391, 455], [8, 264, 392, 456, 488, 492, 494, 495], [9, 265, 393, 457, 489, 493], [10, 266, 394, 458, 490, 491], [11, 267, 395, 459], [12, 268, 396, 460, 462, 463], [13, 269, 397, 461], [14, 270, 398, 399], [15, 271], [16, 272, 400, 464, 472, 476, 478, 479], [17, 273, 401, 465, 473, 477], [18, 274, 402, 466, 474, 475], [19, 275, 403, 467], [20, 276, 404, 468, 470, 471], [21, 277, 405, 469], [22, 278, 406, 407], [23, 279], [24, 280, 408, 412, 414, 415], [25, 281, 409, 413], [26, 282, 410, 411], [27, 283], [28, 284, 286, 287], [29, 285], [30, 31], [32, 288, 416, 432, 440, 444, 446, 447], [33, 289, 417, 433, 441, 445], [34, 290, 418, 434, 442, 443], [35, 291, 419, 435], [36, 292, 420, 436, 438, 439], [37, 293, 421, 437], [38, 294, 422, 423], [39, 295], [40, 296, 424, 428, 430, 431], [41, 297, 425, 429], [42, 298, 426, 427], [43, 299], [44, 300, 302, 303], [45, 301], [46, 47], [48, 304, 312, 316, 318, 319], [49, 305, 313, 317], [50, 306, 314, 315], [51, 307], [52, 308, 310, 311], [53, 309], [54, 55], [56, 60, 62, 63], [57, 61], [58, 59], [64, 320, 352, 368, 376, 380, 382, 383], [65, 321, 353, 369, 377, 381], [66, 322, 354, 370, 378, 379], [67, 323, 355, 371], [68, 324, 356, 372, 374, 375], [69, 325, 357, 373], [70, 326, 358, 359], [71, 327], [72, 328, 360, 364, 366, 367], [73, 329, 361, 365], [74, 330, 362, 363], [75, 331], [76, 332, 334, 335], [77, 333], [78, 79], [80, 336, 344, 348, 350, 351], [81, 337, 345, 349], [82, 338, 346, 347], [83, 339], [84, 340, 342, 343], [85, 341], [86, 87], [88, 92, 94, 95], [89, 93], [90, 91], [96, 112, 120, 124, 126, 127], [97, 113, 121, 125], [98, 114, 122, 123], [99, 115], [100, 116, 118, 119], [101, 117], [102, 103], [104, 108, 110, 111], [105, 109], [106, 107], [128, 192, 224, 240, 248, 252, 254, 255], [129, 193, 225, 241, 249, 253], [130, 194, 226, 242, 250, 251], [131, 195, 227, 243], [132, 196, 228, 244, 246, 247], [133, 197, 229, 245], [134, 198, 230, 231], [135, 199], [136, 200, 232, 236, 238, 239], [137, 201, 233, 237], [138, 202, 234, 235], [139, 203], [140, 204, 206, 207], [141, 205], [142, 143], [144, 208, 216, 220, 222, 223], [145, 209, 217, 221], [146, 210, 218, 219], [147, 211], [148, 212, 214, 215], [149, 213], [150, 151], [152, 156, 158, 159], [153, 157], [154, 155], [160, 176, 184, 188, 190, 191], [161, 177, 185, 189], [162, 178, 186, 187], [163, 179], [164, 180, 182, 183], [165, 181], [166, 167], [168, 172, 174, 175], [169, 173], [170, 171]]
def cht : List Nat := [0, 1, 2, 3, 4, 5, 6, 7, 8, 9, 10, 11, 12, 13, 14, 15, 16, 17, 18, 19, 20, 21, 22, 23, 24, 25, 26, 27, 28, 29, 30, 30, 31, 32, 33, 34, 35, 36, 37, 38, 39, 40, 41, 42, 43, 44, 45, 45, 46, 47, 48, 49, 50, 51, 52, 52, 53, 54, 55, 55, 53, 54, 53, 53, 56, 57, 58, 59, 60, 61, 62, 63, 64, 65, 66, 67, 68, 69, 70, 70, 71, 72, 73, 74, 75, 76, 77, 77, 78, 79, 80, 80, 78, 79, 78, 78, 81, 82, 83, 84, 85, 86, 87, 87, 88, 89, 90, 90, 88, 89, 88, 88, 81, 82, 83, 84, 85, 86, 85, 85, 81, 82, 83, 83, 81, 82, 81, 81, 91, 92, 93, 94, 95, 96, 97, 98, 99, 100, 101, 102, 103, 104, 105, 105, 106, 107, 108, 109, 110, 111, 112, 112, 113, 114, 115, 115, 113, 114, 113, 113, 116, 117, 118, 119, 120, 121, 122, 122, 123, 124, 125, 125, 123, 124, 123, 123, 116, 117, 118, 119, 120, 121, 120, 120, 116, 117, 118, 118, 116, 117, 116, 116, 91, 92, 93, 94, 95, 96, 97, 98, 99, 100, 101, 102, 103, 104, 103, 103, 106, 107, 108, 109, 110, 111, 110, 110, 106, 107, 108, 108, 106, 107, 106, 106, 91, 92, 93, 94, 95, 96, 97, 97, 99, 100, 101, 101, 99, 100, 99, 99, 91, 92, 93, 94, 95, 96, 95, 95, 91, 92, 93, 93, 91, 92, 91, 91, 0, 1, 2, 3, 4, 5, 6, 7, 8, 9, 10, 11, 12, 13, 14, 15, 16, 17, 18, 19, 20, 21, 22, 23, 24, 25, 26, 27, 28, 29, 28, 28, 31, 32, 33, 34, 35, 36, 37, 38, 39, 40, 41, 42, 43, 44, 43, 43, 46, 47, 48, 49, 50, 51, 50, 50, 46, 47, 48, 48, 46, 47, 46, 46, 56, 57, 58, 59, 60, 61, 62, 63, 64, 65, 66, 67, 68, 69, 68, 68, 71, 72, 73, 74, 75, 76, 75, 75, 71, 72, 73, 73, 71, 72, 71, 71, 56, 57, 58, 59, 60, 61, 62, 62, 64, 65, 66, 66, 64, 65, 64, 64, 56, 57, 58, 59, 60, 61, 60, 60, 56, 57, 58, 58, 56, 57, 56, 56, 0, 1, 2, 3, 4, 5, 6, 7, 8, 9, 10, 11, 12, 13, 14, 14, 16, 17, 18, 19, 20, 21, 22, 22, 24, 25, 26, 26, 24, 25, 24, 24, 31, 32, 33, 34, 35, 36, 37, 37, 39, 40, 41, 41, 39, 40, 39, 39, 31, 32, 33, 34, 35, 36, 35, 35, 31, 32, 33, 33, 31, 32, 31, 31, 0, 1, 2, 3, 4, 5, 6, 7, 8, 9, 10, 11, 12, 13, 12, 12, 16, 17, 18, 19, 20, 21, 20, 20, 16, 17, 18, 18, 16, 17, 16, 16, 0, 1, 2, 3, 4, 5, 6, 6, 8, 9, 10, 10, 8, 9, 8, 8, 0, 1, 2, 3, 4, 5, 4, 4, 0, 1, 2, 2, 0, 1, 0, 0]
def cho : List Nat → Bool
  | [] => true
  | a :: l => l.all (fun b => Nat.beq (a &&& b) a) && cho l
theorem chs_ok : (chs.all cho && Nat.beq chs.length 126) = true := by decide
theorem cht_ok : ((List.range 512).all fun s => Nat.blt (cht.getD s 0) 126 && (chs.getD (cht.getD s 0) []).contains s) = true := by decide
theorem cho_cmp : ∀ {l : List Nat}, cho l = true → ∀ {a b}, a ∈ l → b ∈ l → sb a b ∨ sb b a
  | [], _, _, _, h, _ => by cases h
  | c :: l, h, a, b, ha, hb => by
    simp only [cho, Bool.and_eq_true, List.all_eq_true] at h
    obtain ⟨h1, h2⟩ := h
    have h3 : ∀ x, x ∈ l → sb c x := fun x hx => Nat.eq_of_beq_eq_true (h1 x hx)
    rcases List.mem_cons.mp ha with e | ha'
    · rcases List.mem_cons.mp hb with f | hb'
      · rw [e, f]; exact .inl (sb_refl c)
      · rw [e]; exact .inl (h3 b hb')
    · rcases List.mem_cons.mp hb with f | hb'
      · rw [f]; exact .inr (h3 a ha')
      · exact cho_cmp h2 ha' hb'
theorem cht_lt {s : Nat} (h : s < 512) : cht.getD s 0 < 126 ∧ s ∈ chs.getD (cht.getD s 0) [] := by
  have h1 := List.all_eq_true.mp cht_ok s (List.mem_range.mpr h)
  rw [Bool.and_eq_true] at h1
  exact ⟨Nat.blt_eq.mp h1.1 |> fun h => h, List.elem_iff.mp h1.2⟩
theorem cht_cmp {a b : Nat} (ha : a < 512) (hb : b < 512) (h : cht.getD a 0 = cht.getD b 0) : sb a b ∨ sb b a := by
  have h1 := cht_lt ha
  have h2 := cht_lt hb
  rw [← h] at h2
  have h3 := chs_ok
  rw [Bool.and_eq_true] at h3
  have h4 := Nat.eq_of_beq_eq_true h3.2
  have h5 : chs.getD (cht.getD a 0) [] ∈ chs := by
    rw [List.getD_eq_getElem?_getD, List.getElem?_eq_getElem (by rw [h4]; exact h1.1)]
    exact List.getElem_mem _
  exact cho_cmp (List.all_eq_true.mp h3.1 _ h5) h1.2 h2.2
/-- numbers below n, all different, are at most n -/
theorem nd_len : ∀ (n : Nat) (l : List Nat), l.Nodup → (∀ x ∈ l, x < n) → l.length ≤ n
  | 0, l, _, h => by
    cases l with
    | nil => exact Nat.le_refl 0
    | cons a l => exact absurd (h a (List.mem_cons_self ..)) (Nat.not_lt_zero a)
  | n + 1, l, hn, h => by
    have h1 := nd_len n (l.erase n) (hn.erase n) (fun x hx => by
      have h2 := (List.Nodup.mem_erase_iff hn).mp hx
      have h3 := h x h2.2
      have h4 := h2.1
      omega)
    have h5 := List.length_erase_le (a := n) (l := l)
    have h6 : l.length ≤ (l.erase n).length + 1 := by
      by_cases hm : n ∈ l
      · rw [List.length_erase_of_mem hm]; omega
      · rw [List.erase_of_not_mem hm]; omega
    omega
/-- least sets, in order, none part of another -/
def ok (l : List Nat) : Prop := l.Pairwise (· < ·) ∧ (∀ a ∈ l, ∀ b ∈ l, sb a b → a = b) ∧ ∀ a ∈ l, a < 512
/-- a set is enough -/
def up (l : List Nat) (x : Nat) : Prop := ∃ t ∈ l, sb t x
theorem ok_len {l : List Nat} (h : ok l) : l.length ≤ 126 := by
  have h1 : (l.map fun s => cht.getD s 0).Nodup := by
    have hp : l.Pairwise fun a b => cht.getD a 0 ≠ cht.getD b 0 := by
      refine List.Pairwise.imp_of_mem ?_ h.1
      intro a b ha hb hlt he
      rcases cht_cmp (h.2.2 a ha) (h.2.2 b hb) he with g | g
      · have := h.2.1 a ha b hb g; omega
      · have := h.2.1 b hb a ha g; omega
    exact List.pairwise_map.mpr hp
  have h2 := nd_len 126 _ h1 (fun x hx => by
    obtain ⟨s, hs, e⟩ := List.mem_map.mp hx
    rw [← e]
    exact (cht_lt (h.2.2 s hs)).1)
  rwa [List.length_map] at h2
theorem ok_sub {l l' : List Nat} (h : ok l) (h' : ok l') (hu : ∀ x, up l x → up l' x) (hv : ∀ x, up l' x → up l x) : ∀ a, a ∈ l → a ∈ l' := by
  intro a ha
  obtain ⟨b, hb, hba⟩ := hu a ⟨a, ha, sb_refl a⟩
  obtain ⟨c, hc, hcb⟩ := hv b ⟨b, hb, sb_refl b⟩
  have e := h.2.1 c hc a ha (sb_trans hcb hba)
  subst e
  rw [sb_antisymm hcb hba]
  exact hb
theorem srt_ext : ∀ {l l' : List Nat}, l.Pairwise (· < ·) → l'.Pairwise (· < ·) → (∀ a, a ∈ l ↔ a ∈ l') → l = l'
  | [], [], _, _, _ => rfl
  | [], b :: l', _, _, h => by cases (h b).mpr (List.mem_cons_self ..)
  | a :: l, [], _, _, h => by cases (h a).mp (List.mem_cons_self ..)
  | a :: l, b :: l', h1, h2, h => by
    rw [List.pairwise_cons] at h1 h2
    have e : a = b := by
      rcases List.mem_cons.mp ((h a).mp (List.mem_cons_self ..)) with e | e
      · exact e
      · rcases List.mem_cons.mp ((h b).mpr (List.mem_cons_self ..)) with f | f
        · exact f.symm
        · have := h2.1 a e; have := h1.1 b f; omega
    subst e
    congr 1
    refine srt_ext h1.2 h2.2 fun c => ?_
    constructor
    · intro hc
      rcases List.mem_cons.mp ((h c).mp (List.mem_cons_of_mem _ hc)) with f | f
      · have := h1.1 c hc; omega
      · exact f
    · intro hc
      rcases List.mem_cons.mp ((h c).mpr (List.mem_cons_of_mem _ hc)) with f | f
      · have := h2.1 c hc; omega
      · exact f
theorem ok_ext {l l' : List Nat} (h : ok l) (h' : ok l') (hu : ∀ x, up l x ↔ up l' x) : l = l' :=
  srt_ext h.1 h'.1 fun a => ⟨ok_sub h h' (fun x => (hu x).mp) (fun x => (hu x).mpr) a, ok_sub h' h (fun x => (hu x).mpr) (fun x => (hu x).mp) a⟩
theorem ok_nil : ok [] := ⟨List.Pairwise.nil, fun _ h => (by cases h), fun _ h => (by cases h)⟩
theorem ok_one {s : Nat} (h : s < 512) : ok [s] := ⟨List.pairwise_singleton _ _, fun a ha b hb _ => (by rw [List.mem_singleton.mp ha, List.mem_singleton.mp hb]), fun a ha => (by rw [List.mem_singleton.mp ha]; exact h)⟩
theorem up_nil {x : Nat} : ¬ up [] x := fun ⟨_, h, _⟩ => (by cases h)
theorem up_one {s x : Nat} : up [s] x ↔ sb s x := ⟨fun ⟨t, h, g⟩ => (by rw [← List.mem_singleton.mp h]; exact g), fun h => ⟨s, List.mem_singleton.mpr rfl, h⟩⟩
theorem up_in {l : List Nat} {s x : Nat} (h : up l s) : up l x ↔ up l x ∨ sb s x := ⟨.inl, fun g => g.elim id fun g => (by
  obtain ⟨t, ht, hs⟩ := h
  exact ⟨t, ht, sb_trans hs g⟩)⟩
/-- what Row.add makes -/
theorem ok_add {l F1 F2 : List Nat} {s : Nat} {p : Nat → Bool} (h : ok l) (hs : s < 512) (hn : ¬ up l s) (hp : ∀ a, p a = true ↔ ¬ sb s a) (hf : l.filter p = F1 ++ F2) (h1 : ∀ a ∈ F1, a < s) (h2 : ∀ a ∈ F2, s ≤ a) :
    ok (F1 ++ s :: F2) ∧ ∀ x, up (F1 ++ s :: F2) x ↔ up l x ∨ sb s x := by
  have hm : ∀ a, a ∈ F1 ++ F2 ↔ a ∈ l ∧ ¬ sb s a := fun a => by rw [← hf, List.mem_filter, hp]
  have hm' : ∀ a, a ∈ F1 ++ s :: F2 ↔ a = s ∨ a ∈ F1 ++ F2 := fun a => by
    simp only [List.mem_append, List.mem_cons]
    constructor
    · rintro (h | h | h)
      · exact .inr (.inl h)
      · exact .inl h
      · exact .inr (.inr h)
    · rintro (h | h | h)
      · exact .inr (.inl h)
      · exact .inl h
      · exact .inr (.inr h)
  have hsrt : (F1 ++ F2).Pairwise (· < ·) := by rw [← hf]; exact h.1.filter p
  rw [List.pairwise_append] at hsrt
  refine ⟨⟨?_, ?_, ?_⟩, ?_⟩
  · rw [List.pairwise_append]
    refine ⟨hsrt.1, List.pairwise_cons.mpr ⟨fun a ha => ?_, hsrt.2.1⟩, fun a ha b hb => ?_⟩
    · have e1 := h2 a ha
      have e2 := ((hm a).mp (List.mem_append.mpr (.inr ha))).2
      have : s ≠ a := fun e => e2 (e ▸ sb_refl s)
      omega
    · rcases List.mem_cons.mp hb with e | e
      · rw [e]; exact h1 a ha
      · exact hsrt.2.2 a ha b e
  · intro a ha b hb hab
    rcases (hm' a).mp ha with e | e
    · rcases (hm' b).mp hb with f | f
      · rw [e, f]
      · rw [e] at hab; exact absurd hab ((hm b).mp f).2
    · rcases (hm' b).mp hb with f | f
      · rw [f] at hab; exact absurd ⟨a, ((hm a).mp e).1, hab⟩ hn
      · exact h.2.1 a ((hm a).mp e).1 b ((hm b).mp f).1 hab
  · intro a ha
    rcases (hm' a).mp ha with e | e
    · rw [e]; exact hs
    · exact h.2.2 a ((hm a).mp e).1
  · intro x
    constructor
    · rintro ⟨t, ht, htx⟩
      rcases (hm' t).mp ht with e | e
      · rw [e] at htx; exact .inr htx
      · exact .inl ⟨t, ((hm t).mp e).1, htx⟩
    · rintro (⟨t, ht, htx⟩ | hx)
      · by_cases hst : sb s t
        · exact ⟨s, (hm' s).mpr (.inl rfl), sb_trans hst htx⟩
        · exact ⟨t, (hm' t).mpr (.inr ((hm t).mpr ⟨ht, hst⟩)), htx⟩
      · exact ⟨s, (hm' s).mpr (.inl rfl), hx⟩
