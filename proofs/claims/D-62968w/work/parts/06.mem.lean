/-! THE ABSTRACT MACHINE: its memory. Addresses: below 100 cells that stood before the law (constants), 100 + i the i-th cell made since. A tag (t, _), t < 40: an object of class t of aCl; (t, n), 40 ≤ t < 50: an array of n places; (99, _): no cell. -/
abbrev aSt : Type := (Nat → Nat × Nat) × (Nat → Nat → Int32) × (Nat → Nat → Int64) × (Nat → Nat → Option Nat) × Nat × Nat
def gT (z : aSt) : Nat → Nat × Nat := z.1
def gI (z : aSt) : Nat → Nat → Int32 := z.2.1
def gL (z : aSt) : Nat → Nat → Int64 := z.2.2.1
def gR (z : aSt) : Nat → Nat → Option Nat := z.2.2.2.1
def gZ (z : aSt) : Nat := z.2.2.2.2.1
def gS (z : aSt) : Nat := z.2.2.2.2.2
def a_up {α : Type} (f : Nat → Nat → α) (a k : Nat) (v : α) : Nat → Nat → α := fun b j => if b = a then (if j = k then v else f b j) else f b j
def a_row {α : Type} (f : Nat → Nat → α) (a : Nat) (g : Nat → α) : Nat → Nat → α := fun b j => if b = a then g j else f b j
def sI (z : aSt) (a k : Nat) (v : Int32) : aSt := (z.1, a_up z.2.1 a k v, z.2.2)
def sL (z : aSt) (a k : Nat) (v : Int64) : aSt := (z.1, z.2.1, a_up z.2.2.1 a k v, z.2.2.2)
def sR (z : aSt) (a k : Nat) (v : Option Nat) : aSt := (z.1, z.2.1, z.2.2.1, a_up z.2.2.2.1 a k v, z.2.2.2.2)
/-- a cell more, of tag t and length n, of sl slots, all places 0 or null -/
def aNew (z : aSt) (t n sl : Nat) : aSt := (fun b => if b = 100 + z.2.2.2.2.1 then (t, n) else z.1 b, a_row z.2.1 (100 + z.2.2.2.2.1) (fun _ => 0), a_row z.2.2.1 (100 + z.2.2.2.2.1) (fun _ => 0), a_row z.2.2.2.1 (100 + z.2.2.2.2.1) (fun _ => none), z.2.2.2.2.1 + 1, z.2.2.2.2.2 + sl)
/-- the places s, s + 1 .. of row b (n of them) are written to row a from d on -/
def a_cpy {α : Type} (f : Nat → Nat → α) (b s a d n : Nat) : Nat → Nat → α := fun c j => if c = a then (if d ≤ j ∧ j < d + n then f b (s + (j - d)) else f c j) else f c j
/-- the type of a place -/
def aTy (t k : Nat) : FieldType := if t < 40 then (aTysF t).getD k .int else aElF t
/-- what a place holds, as a value (addresses abstract) -/
def aVal (z : aSt) (t a k : Nat) : Value := match aTy t k with
  | .long => .long (gL z a k)
  | .object _ => va_rf (gR z a k)
  | .array _ => va_rf (gR z a k)
  | .float => .null
  | .double => .null
  | _ => .int (gI z a k)
/-- writing a value to a field: it must fit -/
def aPut (z : aSt) (t a k : Nat) (v : Value) : Option aSt := match aTy t k, v with
  | .long, .long x => some (sL z a k x)
  | .object _, .ref x => some (sR z a k (some x))
  | .object _, .null => some (sR z a k none)
  | .array _, .ref x => some (sR z a k (some x))
  | .array _, .null => some (sR z a k none)
  | .int, .int x => some (sI z a k x)
  | .boolean, .int x => if vp_nar .boolean x = x then some (sI z a k x) else none
  | .byte, .int x => if vp_nar .byte x = x then some (sI z a k x) else none
  | .char, .int x => if vp_nar .char x = x then some (sI z a k x) else none
  | _, _ => none
