/-! TREES of texts; a sequence's places -/
set_option maxRecDepth 100000
abbrev Tr : Type := Std.DTreeMap.Internal.Impl Nat (fun _ => Nat)
/-- a sequence's places: the first ones, the last ones, what follows each, the letters of each -/
abbrev SQ : Type := Nat × Nat × List Nat × List Nat
def sFi (r : SQ) : Nat := r.1
def sLa (r : SQ) : Nat := r.2.1
def sfo (r : SQ) : List Nat := r.2.2.1
def sms (r : SQ) : List Nat := r.2.2.2
/-- what follows the places L gets F besides -/
def folL (L F : Nat) (fo : List Nat) : List Nat := (List.range fo.length).map fun i => fo.getD i 0 ||| if L.testBit i = true then F else 0
def shL (w : Nat) (fo : List Nat) : List Nat := fo.map fun x => x * 2 ^ w
def sqPl (m : Nat) : SQ := (1, 1, [0], [m])
def sqTh (a b : SQ) : SQ := (sFi a, sLa b * 2 ^ (sfo a).length, folL (sLa a) (sFi b * 2 ^ (sfo a).length) (sfo a) ++ shL (sfo a).length (sfo b), sms a ++ sms b)
def sqOr (a b : SQ) : SQ := (sFi a ||| sFi b * 2 ^ (sfo a).length, sLa a ||| sLa b * 2 ^ (sfo a).length, sfo a ++ shL (sfo a).length (sfo b), sms a ++ sms b)
def sqMo (a : SQ) : SQ := (sFi a, sLa a, folL (sLa a) (sFi a) (sfo a), sms a)
/-- k + 1 copies: last places of the latest one; all last places; what follows; letters -/
def sqCo (u : SQ) (l : Nat) : Nat → Nat × Nat × List Nat × List Nat
  | 0 => (sLa u, if 1 < l then 0 else sLa u, sfo u, sms u)
  | k + 1 => let c := sqCo u l k
    (sLa u * 2 ^ c.2.2.1.length, c.2.1 ||| (if l ≤ k + 2 then sLa u * 2 ^ c.2.2.1.length else 0), folL c.1 (sFi u * 2 ^ c.2.2.1.length) c.2.2.1 ++ shL c.2.2.1.length (sfo u), c.2.2.2 ++ sms u)
def sqTi (u : SQ) (l m : Nat) : SQ := (sFi u, (sqCo u l (m - 1)).2)
/-- the letters by which a boolean is true -/
def bm : Tr → Nat
  | .leaf => 0
  | .inner k a _ l r => match k with
    | 20 => if a = 1 then 170 else if a = 2 then 204 else if a = 4 then 240 else if a = 8 then 255 else 0
    | 21 => 255 ^^^ bm l
    | 22 => bm l &&& bm r
    | _ => bm l ||| bm r
def sqK (k a b : Nat) (m : Nat) (x y : SQ) : SQ := match k with
  | 8 => sqPl m
  | 9 => sqTh x y
  | 10 => sqOr x y
  | 11 => sqTi x a b
  | 12 => sqMo x
  | _ => x
def sq : Tr → SQ
  | .leaf => (0, 0, [], [])
  | .inner k a b l r => sqK k a b (bm l) (sq l) (sq r)
/-- the masks lie within the width -/
def sqW (r : SQ) : Prop := sFi r < 2 ^ (sfo r).length ∧ sLa r < 2 ^ (sfo r).length ∧ (∀ x ∈ sfo r, x < 2 ^ (sfo r).length) ∧ (sms r).length = (sfo r).length
theorem folL_len (L F : Nat) (fo : List Nat) : (folL L F fo).length = fo.length := by
  unfold folL
  rw [List.length_map, List.length_range]
theorem shL_len (w : Nat) (fo : List Nat) : (shL w fo).length = fo.length := List.length_map ..
theorem folL_get {L F : Nat} {fo : List Nat} {i : Nat} (h : i < fo.length) : (folL L F fo).getD i 0 = fo.getD i 0 ||| if L.testBit i = true then F else 0 := by
  unfold folL
  rw [List.getD_eq_getElem?_getD, List.getElem?_map, List.getElem?_range h]
  rfl
theorem shL_get {w : Nat} {fo : List Nat} {i : Nat} (h : i < fo.length) : (shL w fo).getD i 0 = fo.getD i 0 * 2 ^ w := by
  unfold shL
  rw [List.getD_eq_getElem?_getD, List.getElem?_map, List.getD_eq_getElem?_getD, List.getElem?_eq_getElem h]
  rfl
theorem folL_mem {L F : Nat} {fo : List Nat} {x : Nat} (h : x ∈ folL L F fo) : ∃ y ∈ fo, x = y ∨ x = y ||| F := by
  unfold folL at h
  obtain ⟨i, hi, e⟩ := List.mem_map.mp h
  refine ⟨fo.getD i 0, get_mem (List.mem_range.mp hi), ?_⟩
  rw [← e]
  split
  · exact .inr rfl
  · exact .inl (Nat.or_zero _)
theorem lt_sh {x a b : Nat} (h : x < 2 ^ a) : x * 2 ^ b < 2 ^ (a + b) := by
  rw [Nat.pow_add]
  exact Nat.mul_lt_mul_of_pos_right h (Nat.two_pow_pos b)
theorem lt_up {x a b : Nat} (h : x < 2 ^ a) (hab : a ≤ b) : x < 2 ^ b := Nat.lt_of_lt_of_le h (Nat.pow_le_pow_right (by decide) hab)
theorem sqW_pl (m : Nat) : sqW (sqPl m) := ⟨(show 1 < 2 ^ 1 by decide), (show 1 < 2 ^ 1 by decide), (fun x hx => by rw [List.mem_singleton.mp hx]; show 0 < 2 ^ 1; decide), rfl⟩
theorem sqW_th {a b : SQ} (ha : sqW a) (hb : sqW b) : sqW (sqTh a b) := by
  obtain ⟨a1, a2, a3, a4⟩ := ha
  obtain ⟨b1, b2, b3, b4⟩ := hb
  have hl : (sfo (sqTh a b)).length = (sfo b).length + (sfo a).length := by
    show (folL _ _ _ ++ shL _ _).length = _
    rw [List.length_append, folL_len, shL_len, Nat.add_comm]
  unfold sqW
  rw [hl]
  refine ⟨lt_up a1 (by omega), lt_sh b2, fun x hx => ?_, ?_⟩
  · rcases List.mem_append.mp (show x ∈ folL _ _ _ ++ shL _ _ from hx) with g | g
    · obtain ⟨y, hy, e⟩ := folL_mem g
      rcases e with e | e
      · rw [e]; exact lt_up (a3 y hy) (by omega)
      · rw [e]; exact Nat.or_lt_two_pow (lt_up (a3 y hy) (by omega)) (lt_sh b1)
    · obtain ⟨y, hy, e⟩ := List.mem_map.mp g
      rw [← e]
      exact lt_sh (b3 y hy)
  · show (sms a ++ sms b).length = _
    rw [List.length_append]
    omega
theorem sqW_or {a b : SQ} (ha : sqW a) (hb : sqW b) : sqW (sqOr a b) := by
  obtain ⟨a1, a2, a3, a4⟩ := ha
  obtain ⟨b1, b2, b3, b4⟩ := hb
  have hl : (sfo (sqOr a b)).length = (sfo b).length + (sfo a).length := by
    show (sfo a ++ shL _ _).length = _
    rw [List.length_append, shL_len, Nat.add_comm]
  unfold sqW
  rw [hl]
  refine ⟨Nat.or_lt_two_pow (lt_up a1 (by omega)) (lt_sh b1), Nat.or_lt_two_pow (lt_up a2 (by omega)) (lt_sh b2), fun x hx => ?_, ?_⟩
  · rcases List.mem_append.mp (show x ∈ sfo a ++ shL _ _ from hx) with g | g
    · exact lt_up (a3 x g) (by omega)
    · obtain ⟨y, hy, e⟩ := List.mem_map.mp g
      rw [← e]
      exact lt_sh (b3 y hy)
  · show (sms a ++ sms b).length = _
    rw [List.length_append]
    omega
theorem sqW_mo {a : SQ} (ha : sqW a) : sqW (sqMo a) := by
  obtain ⟨a1, a2, a3, a4⟩ := ha
  have hl : (sfo (sqMo a)).length = (sfo a).length := folL_len ..
  unfold sqW
  rw [hl]
  refine ⟨a1, a2, fun x hx => ?_, a4⟩
  obtain ⟨y, hy, e⟩ := folL_mem (show x ∈ folL _ _ _ from hx)
  rcases e with e | e
  · rw [e]; exact a3 y hy
  · rw [e]; exact Nat.or_lt_two_pow (a3 y hy) a1
theorem sqCo_len (u : SQ) (l : Nat) : ∀ k, (sqCo u l k).2.2.1.length = (k + 1) * (sfo u).length
  | 0 => (Nat.one_mul _).symm
  | k + 1 => by
    show (folL _ _ _ ++ shL _ _).length = _
    rw [List.length_append, folL_len, shL_len, sqCo_len u l k, Nat.succ_mul (k + 1)]
theorem sqCo_w {u : SQ} (hu : sqW u) (l : Nat) : ∀ k, (sqCo u l k).1 < 2 ^ (sqCo u l k).2.2.1.length ∧ (sqCo u l k).2.1 < 2 ^ (sqCo u l k).2.2.1.length ∧ (∀ x ∈ (sqCo u l k).2.2.1, x < 2 ^ (sqCo u l k).2.2.1.length) ∧ (sqCo u l k).2.2.2.length = (sqCo u l k).2.2.1.length
  | 0 => ⟨hu.2.1, (by show (if 1 < l then 0 else sLa u) < 2 ^ (sfo u).length; split; exact Nat.two_pow_pos _; exact hu.2.1), hu.2.2.1, hu.2.2.2⟩
  | k + 1 => by
    obtain ⟨h1, h2, h3, h4⟩ := sqCo_w hu l k
    have hl : (sqCo u l (k + 1)).2.2.1.length = (sfo u).length + (sqCo u l k).2.2.1.length := by
      show (folL _ _ _ ++ shL _ _).length = _
      rw [List.length_append, folL_len, shL_len, Nat.add_comm]
    rw [hl]
    refine ⟨lt_sh hu.2.1, Nat.or_lt_two_pow (lt_up h2 (by omega)) ?_, fun x hx => ?_, ?_⟩
    · split
      · exact lt_sh hu.2.1
      · exact Nat.two_pow_pos _
    · rcases List.mem_append.mp (show x ∈ folL _ _ _ ++ shL _ _ from hx) with g | g
      · obtain ⟨y, hy, e⟩ := folL_mem g
        rcases e with e | e
        · rw [e]; exact lt_up (h3 y hy) (by omega)
        · rw [e]; exact Nat.or_lt_two_pow (lt_up (h3 y hy) (by omega)) (lt_sh hu.1)
      · obtain ⟨y, hy, e⟩ := List.mem_map.mp g
        rw [← e]
        exact lt_sh (hu.2.2.1 y hy)
    · show ((sqCo u l k).2.2.2 ++ sms u).length = _
      rw [List.length_append, h4, hu.2.2.2, Nat.add_comm]
theorem sqW_ti {u : SQ} (hu : sqW u) (l m : Nat) : sqW (sqTi u l m) := by
  have h := sqCo_w hu l (m - 1)
  refine ⟨lt_up hu.1 ?_, h.2⟩
  show _ ≤ (sqCo u l (m - 1)).2.2.1.length
  rw [sqCo_len]
  exact Nat.le_mul_of_pos_left _ (Nat.succ_pos _)
theorem sqW_sq : ∀ T : Tr, sqW (sq T)
  | .leaf => ⟨by decide, by decide, (fun x hx => by cases hx), rfl⟩
  | .inner k a b l r => by
    have h1 := sqW_sq l
    have h2 := sqW_sq r
    show sqW (sqK k a b (bm l) (sq l) (sq r))
    unfold sqK
    split
    · exact sqW_pl _
    · exact sqW_th h1 h2
    · exact sqW_or h1 h2
    · exact sqW_ti h1 a b
    · exact sqW_mo h1
    · exact h1
/-! the answer of lay: first ones, and the last ones nine bits higher -/
theorem or_add {f l : Nat} (h : f < 512) : f ||| 512 * l = f + 512 * l := by
  have := Nat.two_pow_add_eq_or_of_lt (i := 9) h l
  rw [Nat.or_comm, ← this, Nat.add_comm]
theorem pk_or {f l g k : Nat} (hf : f < 512) (hg : g < 512) : (f + 512 * l) ||| (g + 512 * k) = (f ||| g) + 512 * (l ||| k) := by
  rw [← or_add hf, ← or_add hg, ← or_add (Nat.or_lt_two_pow (n := 9) hf hg)]
  have e : 512 * (l ||| k) = 512 * l ||| 512 * k := by
    have := Nat.shiftLeft_or_distrib (a := l) (b := k) (i := 9)
    simp only [Nat.shiftLeft_eq] at this
    rw [Nat.mul_comm 512, Nat.mul_comm 512, Nat.mul_comm 512]
    exact this
  rw [e]
  ac_rfl
theorem pk_lo {f l : Nat} (h : f < 512) : nI (f + 512 * l) &&& nI 511 = nI f := by
  rw [nI_and]
  have := Nat.and_two_pow_sub_one_eq_mod (f + 512 * l) 9
  rw [show (511 : Nat) = 2 ^ 9 - 1 from rfl, this]
  congr 1
  omega
theorem pk_hi {f l : Nat} (h : f < 512) (hl : l < 512) : nI (f + 512 * l) >>> (nI 9 &&& 31) = nI l := by
  rw [nI_shr (by omega) (by decide)]
  congr 1
  omega
theorem pk_up {f l : Nat} (h : f < 512) (hl : l < 512) : nI (f + 512 * l) &&& (-512) = nI (512 * l) := by
  have e : (-512 : Int32) = nI (2 ^ 9 * (2 ^ 23 - 1)) := by decide
  rw [e, nI_and]
  congr 1
  apply Nat.eq_of_testBit_eq
  intro i
  rw [Nat.add_comm, show (512 : Nat) = 2 ^ 9 from rfl, Nat.testBit_and, Nat.testBit_two_pow_mul_add _ h, Nat.testBit_two_pow_mul, Nat.testBit_two_pow_mul]
  by_cases c : i < 9
  · rw [if_pos c, decide_eq_false (show ¬ 9 ≤ i by omega)]
    simp
  · rw [if_neg c, decide_eq_true (show 9 ≤ i by omega), Nat.testBit_two_pow_sub_one]
    by_cases c2 : i - 9 < 23
    · rw [decide_eq_true c2]; simp
    · rw [Nat.testBit_lt_two_pow (lt_up (show l < 2 ^ 9 from hl) (by omega))]
      simp
