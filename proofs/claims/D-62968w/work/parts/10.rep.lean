/-! SOUNDNESS, 1: how the abstract memory stands in the machine's heap -/
/-- class numbers by tag, slots by tag and place, where the constants lie, how many cells there were -/
abbrev aD : Type := (Nat → ClassId) × (Nat → Nat → Nat) × (Nat → Nat) × Nat
def dC (D : aD) : Nat → ClassId := D.1
def dS (D : aD) : Nat → Nat → Nat := D.2.1
def dK (D : aD) : Nat → Nat := D.2.2.1
def dB (D : aD) : Nat := D.2.2.2
def aMu (D : aD) (a : Nat) : Nat := if a < 100 then dK D a else dB D + (a - 100)
def aRh (D : aD) : Value → Value
  | .ref a => .ref (aMu D a)
  | v => v
def aA (D : aD) : Nat → Prop := fun q => dB D ≤ q
def aSl (D : aD) (t k : Nat) : Nat := if t < 40 then dS D t k else k
/-- how many places of a cell are told -/
def aNp (t n : Nat) : Nat := if t < 40 then (aTysF t).length else n
def aOkC (D : aD) (t n a : Nat) (cell : Cell) : Prop := cell.cls = dC D t ∧ (100 ≤ a → cell.vm = .none ∧ cell.monitor = {}) ∧ cell.vm ≠ .unknown ∧ cell.vm.isStatics = false ∧ (40 ≤ t → n ≤ cell.slots.size ∧ cell.slots.size.toInt32 = nI n ∧ (100 ≤ a → cell.slots.size = n))
def aRep (D : aD) (z : aSt) (H : Heap) : Prop := H.size = dB D + gZ z ∧ (∀ a, a < 100 → (gT z a).1 < 60 → dK D a < dB D) ∧
  ∀ a t n, gT z a = (t, n) → t < 60 → (100 ≤ a → a - 100 < gZ z) ∧ ∃ cell : Cell, H[aMu D a]? = some cell ∧ aOkC D t n a cell ∧ ∀ k, k < aNp t n → cell.slots[aSl D t k]? = some (aRh D (aVal z t a k))
theorem aMu_lt {D : aD} {a : Nat} (h : a < 100) : aMu D a = dK D a := if_pos h
theorem aMu_ge {D : aD} {a : Nat} (h : 100 ≤ a) : aMu D a = dB D + (a - 100) := if_neg (by omega)
theorem aMu_A {D : aD} {a : Nat} (h : 100 ≤ a) : aA D (aMu D a) := by
  rw [aMu_ge h]
  exact Nat.le_add_right _ _
theorem aMu_ne {D : aD} {a b : Nat} (hk : b < 100 → dK D b < dB D) (ha : 100 ≤ a) (h : b ≠ a) : aMu D b ≠ aMu D a := by
  rw [aMu_ge ha]
  by_cases hb : b < 100
  · rw [aMu_lt hb]
    have := hk hb
    omega
  · rw [aMu_ge (by omega)]
    omega
theorem aRh_rf (D : aD) (r : Option Nat) : aRh D (va_rf r) = va_rf (r.map (aMu D)) := by cases r <;> rfl
theorem aRh_cat (D : aD) (v : Value) : (aRh D v).category = v.category := by cases v <;> rfl
theorem aRh_cats (D : aD) (S : List Value) : ((S.map (aRh D)).map fun v => v.category).sum ≤ 2 * S.length := by
  induction S with
  | nil => simp
  | cons v S ih =>
    have h : (aRh D v).category ≤ 2 := by rcases lv_cat (aRh D v) with h | h <;> omega
    simp only [List.map_cons, List.sum_cons, List.length_cons]
    simp only [List.map_map] at ih ⊢
    omega
/-- the arrays' classes -/
def aArr (U : State) (cA : ClassId) (ty : FieldType) : Prop := U.vm.findClass ("[" ++ ty.toString) = some cA ∧ ∃ (kA : Class) (comp : ClassId), U.vm.classes[cA]? = some kA ∧ kA.kind = .array comp ty ∧ ∀ C, ty = .object C → U.vm.findClass C = some comp
theorem aArr.moved {u U : State} (hvm : u.vm.Alike U.vm) {cA : ClassId} {ty : FieldType} (h : aArr u cA ty) : aArr U cA ty := by
  obtain ⟨h1, kA, comp, h2, h3, h4⟩ := h
  obtain ⟨k', hk', he⟩ := hvm.2.2 _ _ h2
  exact ⟨by rw [hvm.findClass]; exact h1, k', comp, hk', by rw [he]; exact h3, fun C hC => by rw [hvm.findClass]; exact h4 C hC⟩
theorem aArr.of {U : State} {cA : ClassId} {ty : FieldType} (h : aArr U cA ty) {cell : Cell} (hc : cell.cls = cA) (hv : cell.vm.isStatics = false) : U.isArrayOf cell ty := by
  obtain ⟨h1, kA, comp, h2, h3, h4⟩ := h
  exact ⟨(fun k hk => by rw [hk] at hv; cases hv), kA, (by rw [hc]; exact h2), comp, h3⟩
def aCO : List String := ["TraceWarden$Part", "TraceWarden$Row", "TraceWarden$Gate"]
def aAO : List String := ["TraceWarden$Part", "TraceWarden$Row", "TraceWarden$State", "TraceWarden$Gate", "java/lang/Object"]
/-- a constant array's class -/
def aArrK (U : State) (cA : ClassId) (ty : FieldType) : Prop := ∃ (kA : Class) (comp : ClassId), U.vm.classes[cA]? = some kA ∧ kA.kind = .array comp ty
theorem aArrK.moved {u U : State} (hvm : u.vm.Alike U.vm) {cA : ClassId} {ty : FieldType} (h : aArrK u cA ty) : aArrK U cA ty := by
  obtain ⟨kA, comp, h2, h3⟩ := h
  obtain ⟨k', hk', he⟩ := hvm.2.2 _ _ h2
  exact ⟨k', comp, hk', by rw [he]; exact h3⟩
abbrev aKinds : List String := ["TRUTH", "ALWAYS", "NEXT", "OVERLAP", "BEHIND", "BOTH", "EITHER", "UNTIL", "PLACE", "THEN", "CHOICE", "TIMES", "MORE"]
abbrev aOrds : List Int32 := [0, 1, 2, 3, 4, 5, 6, 7, 8, 9, 10, 11, 12]
/-- statics that hold a reference or null -/
abbrev aTS : List (String × String × String) := [("java/lang/Throwable", "UNASSIGNED_STACK", "[Ljava/lang/StackTraceElement;"), ("java/lang/Throwable", "SUPPRESSED_SENTINEL", "Ljava/util/List;"), ("jdk/internal/util/Preconditions", "SIOOBE_FORMATTER", "Ljava/util/function/BiFunction;")]
def aKW (D : aD) (s : State) : Prop :=
  va_Ec "TraceWarden$Kind" "TraceWarden$Kind" "LTraceWarden$Kind;" aKinds [("java/lang/Enum", "ordinal", "I", aOrds)] (dK D) (aA D) s s.heap ∧
  (∀ q ∈ aTS, (Cond.laysStatic q.1 q.2.1 q.2.2).before #[] s = true ∧ va_Zq q.1 q.2.1 q.2.2 (aA D) s s.heap) ∧
  (∀ x, Cond.declares x ∈ lw_tbl → va_Nw (.declares x) s) ∧ (∀ C T, Cond.castable C T ∈ lw_tbl → va_Nw (.castable C T) s) ∧
  (∀ t t', aExT t = true → aExT t' = true → t ≠ t' → s.vm.assignable (dC D t) (dC D t') = false) ∧
  va_Mi "[Ljava/lang/Object;" (dK D 16) s ∧ (∀ y ∈ aSelX, (Cond.selects "java/lang/StringBuilder" y y).before #[] s = true) ∧ (∀ t, 50 ≤ t → t < 60 → aArrK s (dC D t) (aElF t))
/-- what is known of the machine's tables, all through the run -/
def aKV (D : aD) (s : State) : Prop :=
  (∀ w ∈ lw_all, w.before #[] s = true) ∧ (∀ q ∈ aNwF, va_Nw (Cond.fieldLinkNest q.1 q.2.1 q.2.2.1 q.2.2.2.1 q.2.2.2.2.1 q.2.2.2.2.2) s) ∧ (∀ q ∈ aNwM, va_Nw (Cond.methodLinkNest q.1 q.2.1 q.2.2.1 q.2.2.2) s) ∧
  va_K (dC D, dS D) aCl [] s ∧ (∀ t, 40 ≤ t → t < 50 → aArr s (dC D t) (aElF t)) ∧ (∀ C ∈ aAO, va_AO C s) ∧ (∀ C ∈ aCO, va_Nw (.castable C "java/lang/Object") s) ∧
  (∀ q ∈ aStL, va_Z q.1 q.2.1 q.2.2.1 (aRh D q.2.2.2) (aA D) s s.heap) ∧ (∀ q ∈ aStr, vk_R q.1 q.2.1 q.2.2.1 (dK D q.2.2.2) s) ∧ (∀ a, a < 100 → a ≠ 16 → dK D a < dB D) ∧ (∀ a b, a < 13 → b < 13 → dK D a = dK D b → a = b) ∧ aKW D s
def aLoc (D : aD) (L : List (Option Value)) (ls : Array Slot) : Prop := ls.size = L.length ∧ lv_wf ls ∧ ∀ (i : Nat) (v : Value), L[i]? = some (some v) → ls[i]? = some (.val (aRh D v))
theorem aKV.word {D : aD} {s : State} (h : aKV D s) {w : Cond} (hw : w ∈ lw_all) (args : Array Value) : w.before args s = true := word_at (State.WarmedH.refl s) (lw_self w hw).2 (h.1 w hw)
