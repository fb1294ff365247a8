set_option maxRecDepth 100000
/-! TraceWardenLaw -/
def RX0 : String := "TraceWardenLaw"
abbrev cX0_compile : ByteArray := method_3_code
def yX0_compile : MethodName := ⟨RX0, "compile", "(LTraceWarden;[J)I"⟩
abbrev cX0_size : ByteArray := method_4_code
def yX0_size : MethodName := ⟨RX0, "size", "(LTraceWarden;I[J)I"⟩
abbrev cX0_next : ByteArray := method_5_code
def yX0_next : MethodName := ⟨RX0, "next", "(LTraceWarden;II[J)I"⟩
abbrev cX0_output : ByteArray := method_6_code
def yX0_output : MethodName := ⟨RX0, "output", "(LTraceWarden;III[J)I"⟩
abbrev cX0_begin : ByteArray := method_7_code
def yX0_begin : MethodName := ⟨RX0, "begin", "(LTraceWarden;[J)I"⟩
abbrev cX0_step : ByteArray := method_8_code
def yX0_step : MethodName := ⟨RX0, "step", "(LTraceWarden;I[J)I"⟩
abbrev cX0_loop : ByteArray := method_9_code
def yX0_loop : MethodName := ⟨RX0, "loop", "(LTraceWarden;I[J)I"⟩
theorem q64 : (Jvm.Cond.initialized "TraceWardenLaw") ∈ lw_all := lw_g (lw_at lw_m1 0 rfl) rfl
theorem q101 : (Jvm.Cond.classLink "TraceWardenLaw" (8 : Nat) "TraceWarden") ∈ lw_all := lw_g (lw_at lw_m1 37 rfl) rfl
theorem q103 : (Jvm.Cond.methodLink "TraceWardenLaw" (46 : Nat) ({ cls := "TraceWarden", name := "<init>", desc := "()V" } : Jvm.MethodName)) ∈ lw_all := lw_g (lw_at lw_m1 39 rfl) rfl
theorem q377 : (Jvm.Cond.methodLink "TraceWardenLaw" (52 : Nat) ({ cls := "TraceWarden", name := "text", desc := "(J)I" } : Jvm.MethodName)) ∈ lw_all := lw_g (lw_at lw_m2 73 rfl) rfl
theorem q384 : (Jvm.Cond.methodLink "TraceWardenLaw" (57 : Nat) ({ cls := "TraceWarden", name := "wipe", desc := "()V" } : Jvm.MethodName)) ∈ lw_all := lw_g (lw_at lw_m2 80 rfl) rfl
theorem q388 : (Jvm.Cond.methodLink "TraceWardenLaw" (70 : Nat) ({ cls := "TraceWarden", name := "fault", desc := "()I" } : Jvm.MethodName)) ∈ lw_all := lw_g (lw_at lw_m2 84 rfl) rfl
theorem q392 : (Jvm.Cond.methodLink "TraceWardenLaw" (92 : Nat) ({ cls := "TraceWarden", name := "time", desc := "()I" } : Jvm.MethodName)) ∈ lw_all := lw_g (lw_at lw_m2 88 rfl) rfl
theorem q396 : (Jvm.Cond.methodLink "TraceWardenLaw" (96 : Nat) ({ cls := "TraceWarden", name := "window", desc := "()I" } : Jvm.MethodName)) ∈ lw_all := lw_g (lw_at lw_m2 92 rfl) rfl
theorem q400 : (Jvm.Cond.methodLink "TraceWardenLaw" (103 : Nat) ({ cls := "TraceWarden", name := "report", desc := "()I" } : Jvm.MethodName)) ∈ lw_all := lw_g (lw_at lw_m2 96 rfl) rfl
theorem q722 : (Jvm.Cond.methodLink "TraceWardenLaw" (107 : Nat) ({ cls := "TraceWarden", name := "said", desc := "(I)C" } : Jvm.MethodName)) ∈ lw_all := lw_g (lw_at lw_m3 178 rfl) rfl
theorem q753 : (Jvm.Cond.methodLink "TraceWardenLaw" (61 : Nat) ({ cls := "TraceWardenLaw", name := "compile", desc := "(LTraceWarden;[J)I" } : Jvm.MethodName)) ∈ lw_all := lw_g (lw_at lw_m3 209 rfl) rfl
theorem q754 : (Jvm.Cond.static ({ cls := "TraceWardenLaw", name := "compile", desc := "(LTraceWarden;[J)I" } : Jvm.MethodName)) ∈ lw_all := lw_g (lw_at lw_m3 210 rfl) rfl
theorem q755 : (Jvm.Cond.codeWith ({ cls := "TraceWardenLaw", name := "compile", desc := "(LTraceWarden;[J)I" } : Jvm.MethodName) method_3_code (3 : Nat) (Option.some Jvm.ClassFile.FieldType.int) [((0 : Nat), (8 : Nat), (11 : Nat), (13 : Nat)), ((0 : Nat), (8 : Nat), (14 : Nat), (15 : Nat))]) ∈ lw_all := lw_g (lw_at lw_m3 211 rfl) rfl
theorem q756 : (Jvm.Cond.classLink "TraceWardenLaw" (13 : Nat) "java/lang/IllegalArgumentException") ∈ lw_all := lw_g (lw_at lw_m3 212 rfl) rfl
theorem q757 : (Jvm.Cond.classLink "TraceWardenLaw" (15 : Nat) "java/lang/UnsupportedOperationException") ∈ lw_all := lw_g (lw_at lw_m3 213 rfl) rfl
theorem q758 : (Jvm.Cond.methodLink "TraceWardenLaw" (7 : Nat) ({ cls := "TraceWarden", name := "compile", desc := "()I" } : Jvm.MethodName)) ∈ lw_all := lw_g (lw_at lw_m3 214 rfl) rfl
theorem q1084 : (Jvm.Cond.methodLink "TraceWardenLaw" (74 : Nat) ({ cls := "TraceWardenLaw", name := "size", desc := "(LTraceWarden;I[J)I" } : Jvm.MethodName)) ∈ lw_all := lw_g (lw_at lw_m5 60 rfl) rfl
theorem q1085 : (Jvm.Cond.static ({ cls := "TraceWardenLaw", name := "size", desc := "(LTraceWarden;I[J)I" } : Jvm.MethodName)) ∈ lw_all := lw_g (lw_at lw_m5 61 rfl) rfl
theorem q1086 : (Jvm.Cond.codeWith ({ cls := "TraceWardenLaw", name := "size", desc := "(LTraceWarden;I[J)I" } : Jvm.MethodName) method_4_code (4 : Nat) (Option.some Jvm.ClassFile.FieldType.int) [((0 : Nat), (9 : Nat), (12 : Nat), (21 : Nat)), ((0 : Nat), (9 : Nat), (15 : Nat), (13 : Nat))]) ∈ lw_all := lw_g (lw_at lw_m5 62 rfl) rfl
theorem q1087 : (Jvm.Cond.classLink "TraceWardenLaw" (21 : Nat) "java/lang/IllegalStateException") ∈ lw_all := lw_g (lw_at lw_m5 63 rfl) rfl
theorem q1088 : (Jvm.Cond.methodLink "TraceWardenLaw" (17 : Nat) ({ cls := "TraceWarden", name := "size", desc := "(I)I" } : Jvm.MethodName)) ∈ lw_all := lw_g (lw_at lw_m5 64 rfl) rfl
theorem q1137 : (Jvm.Cond.methodLink "TraceWardenLaw" (78 : Nat) ({ cls := "TraceWardenLaw", name := "next", desc := "(LTraceWarden;II[J)I" } : Jvm.MethodName)) ∈ lw_all := lw_g (lw_at lw_m5 113 rfl) rfl
theorem q1138 : (Jvm.Cond.static ({ cls := "TraceWardenLaw", name := "next", desc := "(LTraceWarden;II[J)I" } : Jvm.MethodName)) ∈ lw_all := lw_g (lw_at lw_m5 114 rfl) rfl
theorem q1139 : (Jvm.Cond.codeWith ({ cls := "TraceWardenLaw", name := "next", desc := "(LTraceWarden;II[J)I" } : Jvm.MethodName) method_5_code (5 : Nat) (Option.some Jvm.ClassFile.FieldType.int) [((0 : Nat), (10 : Nat), (13 : Nat), (21 : Nat)), ((0 : Nat), (10 : Nat), (17 : Nat), (27 : Nat))]) ∈ lw_all := lw_g (lw_at lw_m5 115 rfl) rfl
theorem q1140 : (Jvm.Cond.classLink "TraceWardenLaw" (27 : Nat) "java/util/NoSuchElementException") ∈ lw_all := lw_g (lw_at lw_m5 116 rfl) rfl
theorem q1141 : (Jvm.Cond.methodLink "TraceWardenLaw" (23 : Nat) ({ cls := "TraceWarden", name := "next", desc := "(II)I" } : Jvm.MethodName)) ∈ lw_all := lw_g (lw_at lw_m5 117 rfl) rfl
theorem q1163 : (Jvm.Cond.methodLink "TraceWardenLaw" (82 : Nat) ({ cls := "TraceWardenLaw", name := "output", desc := "(LTraceWarden;III[J)I" } : Jvm.MethodName)) ∈ lw_all := lw_g (lw_at lw_m5 139 rfl) rfl
theorem q1164 : (Jvm.Cond.static ({ cls := "TraceWardenLaw", name := "output", desc := "(LTraceWarden;III[J)I" } : Jvm.MethodName)) ∈ lw_all := lw_g (lw_at lw_m5 140 rfl) rfl
theorem q1165 : (Jvm.Cond.codeWith ({ cls := "TraceWardenLaw", name := "output", desc := "(LTraceWarden;III[J)I" } : Jvm.MethodName) method_6_code (6 : Nat) (Option.some Jvm.ClassFile.FieldType.int) [((0 : Nat), (19 : Nat), (22 : Nat), (21 : Nat)), ((0 : Nat), (19 : Nat), (26 : Nat), (33 : Nat))]) ∈ lw_all := lw_g (lw_at lw_m5 141 rfl) rfl
theorem q1166 : (Jvm.Cond.classLink "TraceWardenLaw" (33 : Nat) "java/lang/IndexOutOfBoundsException") ∈ lw_all := lw_g (lw_at lw_m5 142 rfl) rfl
theorem q1185 : (Jvm.Cond.methodLink "TraceWardenLaw" (29 : Nat) ({ cls := "TraceWarden", name := "output", desc := "(III)Z" } : Jvm.MethodName)) ∈ lw_all := lw_g (lw_at lw_m5 161 rfl) rfl
theorem q1208 : (Jvm.Cond.methodLink "TraceWardenLaw" (86 : Nat) ({ cls := "TraceWardenLaw", name := "begin", desc := "(LTraceWarden;[J)I" } : Jvm.MethodName)) ∈ lw_all := lw_g (lw_at lw_m5 184 rfl) rfl
theorem q1209 : (Jvm.Cond.static ({ cls := "TraceWardenLaw", name := "begin", desc := "(LTraceWarden;[J)I" } : Jvm.MethodName)) ∈ lw_all := lw_g (lw_at lw_m5 185 rfl) rfl
theorem q1210 : (Jvm.Cond.codeWith ({ cls := "TraceWardenLaw", name := "begin", desc := "(LTraceWarden;[J)I" } : Jvm.MethodName) method_7_code (3 : Nat) (Option.some Jvm.ClassFile.FieldType.int) [((0 : Nat), (15 : Nat), (18 : Nat), (21 : Nat))]) ∈ lw_all := lw_g (lw_at lw_m5 186 rfl) rfl
theorem q1211 : (Jvm.Cond.methodLink "TraceWardenLaw" (35 : Nat) ({ cls := "TraceWarden", name := "begin", desc := "()Z" } : Jvm.MethodName)) ∈ lw_all := lw_g (lw_at lw_m5 187 rfl) rfl
theorem q1219 : (Jvm.Cond.methodLink "TraceWardenLaw" (89 : Nat) ({ cls := "TraceWardenLaw", name := "step", desc := "(LTraceWarden;I[J)I" } : Jvm.MethodName)) ∈ lw_all := lw_g (lw_at lw_m5 195 rfl) rfl
theorem q1220 : (Jvm.Cond.static ({ cls := "TraceWardenLaw", name := "step", desc := "(LTraceWarden;I[J)I" } : Jvm.MethodName)) ∈ lw_all := lw_g (lw_at lw_m5 196 rfl) rfl
theorem q1221 : (Jvm.Cond.codeWith ({ cls := "TraceWardenLaw", name := "step", desc := "(LTraceWarden;I[J)I" } : Jvm.MethodName) method_8_code (4 : Nat) (Option.some Jvm.ClassFile.FieldType.int) [((0 : Nat), (9 : Nat), (12 : Nat), (21 : Nat)), ((0 : Nat), (9 : Nat), (15 : Nat), (13 : Nat))]) ∈ lw_all := lw_g (lw_at lw_m5 197 rfl) rfl
theorem q1222 : (Jvm.Cond.methodLink "TraceWardenLaw" (39 : Nat) ({ cls := "TraceWarden", name := "step", desc := "(I)I" } : Jvm.MethodName)) ∈ lw_all := lw_g (lw_at lw_m5 198 rfl) rfl
theorem q1230 : (Jvm.Cond.methodLink "TraceWardenLaw" (100 : Nat) ({ cls := "TraceWardenLaw", name := "loop", desc := "(LTraceWarden;I[J)I" } : Jvm.MethodName)) ∈ lw_all := lw_g (lw_at lw_m5 206 rfl) rfl
theorem q1231 : (Jvm.Cond.static ({ cls := "TraceWardenLaw", name := "loop", desc := "(LTraceWarden;I[J)I" } : Jvm.MethodName)) ∈ lw_all := lw_g (lw_at lw_m5 207 rfl) rfl
theorem q1232 : (Jvm.Cond.codeWith ({ cls := "TraceWardenLaw", name := "loop", desc := "(LTraceWarden;I[J)I" } : Jvm.MethodName) method_9_code (4 : Nat) (Option.some Jvm.ClassFile.FieldType.int) [((0 : Nat), (16 : Nat), (19 : Nat), (21 : Nat)), ((0 : Nat), (16 : Nat), (22 : Nat), (33 : Nat))]) ∈ lw_all := lw_g (lw_at lw_m5 208 rfl) rfl
theorem q1233 : (Jvm.Cond.methodLink "TraceWardenLaw" (42 : Nat) ({ cls := "TraceWarden", name := "loop", desc := "(I)Z" } : Jvm.MethodName)) ∈ lw_all := lw_g (lw_at lw_m5 209 rfl) rfl
theorem q1237 : (Jvm.Cond.classLink "TraceWardenLaw" (47 : Nat) "TraceWardenModel") ∈ lw_all := lw_g (lw_at lw_m5 213 rfl) rfl
theorem q1239 : (Jvm.Cond.methodLink "TraceWardenLaw" (49 : Nat) ({ cls := "TraceWardenModel", name := "<init>", desc := "()V" } : Jvm.MethodName)) ∈ lw_all := lw_g (lw_at lw_m5 215 rfl) rfl
theorem q1407 : (Jvm.Cond.methodLink "TraceWardenLaw" (67 : Nat) ({ cls := "TraceWardenModel", name := "thrown", desc := "()I" } : Jvm.MethodName)) ∈ lw_all := lw_g (lw_at lw_m6 143 rfl) rfl
theorem q1411 : (Jvm.Cond.methodLink "TraceWardenLaw" (56 : Nat) ({ cls := "TraceWardenModel", name := "text", desc := "(J)I" } : Jvm.MethodName)) ∈ lw_all := lw_g (lw_at lw_m6 147 rfl) rfl
theorem q1416 : (Jvm.Cond.methodLink "TraceWardenLaw" (60 : Nat) ({ cls := "TraceWardenModel", name := "wipe", desc := "()V" } : Jvm.MethodName)) ∈ lw_all := lw_g (lw_at lw_m6 152 rfl) rfl
theorem q1420 : (Jvm.Cond.methodLink "TraceWardenLaw" (73 : Nat) ({ cls := "TraceWardenModel", name := "fault", desc := "()I" } : Jvm.MethodName)) ∈ lw_all := lw_g (lw_at lw_m6 156 rfl) rfl
theorem q1424 : (Jvm.Cond.methodLink "TraceWardenLaw" (66 : Nat) ({ cls := "TraceWardenModel", name := "compile", desc := "()I" } : Jvm.MethodName)) ∈ lw_all := lw_g (lw_at lw_m6 160 rfl) rfl
theorem q1582 : (Jvm.Cond.methodLink "TraceWardenLaw" (77 : Nat) ({ cls := "TraceWardenModel", name := "size", desc := "(I)I" } : Jvm.MethodName)) ∈ lw_all := lw_g (lw_at lw_m7 78 rfl) rfl
theorem q1586 : (Jvm.Cond.methodLink "TraceWardenLaw" (81 : Nat) ({ cls := "TraceWardenModel", name := "next", desc := "(II)I" } : Jvm.MethodName)) ∈ lw_all := lw_g (lw_at lw_m7 82 rfl) rfl
theorem q1590 : (Jvm.Cond.methodLink "TraceWardenLaw" (85 : Nat) ({ cls := "TraceWardenModel", name := "output", desc := "(III)Z" } : Jvm.MethodName)) ∈ lw_all := lw_g (lw_at lw_m7 86 rfl) rfl
theorem q1594 : (Jvm.Cond.methodLink "TraceWardenLaw" (88 : Nat) ({ cls := "TraceWardenModel", name := "begin", desc := "()Z" } : Jvm.MethodName)) ∈ lw_all := lw_g (lw_at lw_m7 90 rfl) rfl
theorem q1598 : (Jvm.Cond.methodLink "TraceWardenLaw" (91 : Nat) ({ cls := "TraceWardenModel", name := "step", desc := "(I)I" } : Jvm.MethodName)) ∈ lw_all := lw_g (lw_at lw_m7 94 rfl) rfl
theorem q1602 : (Jvm.Cond.methodLink "TraceWardenLaw" (95 : Nat) ({ cls := "TraceWardenModel", name := "time", desc := "()I" } : Jvm.MethodName)) ∈ lw_all := lw_g (lw_at lw_m7 98 rfl) rfl
theorem q1606 : (Jvm.Cond.methodLink "TraceWardenLaw" (99 : Nat) ({ cls := "TraceWardenModel", name := "window", desc := "()I" } : Jvm.MethodName)) ∈ lw_all := lw_g (lw_at lw_m7 102 rfl) rfl
theorem q1618 : (Jvm.Cond.methodLink "TraceWardenLaw" (102 : Nat) ({ cls := "TraceWardenModel", name := "loop", desc := "(I)Z" } : Jvm.MethodName)) ∈ lw_all := lw_g (lw_at lw_m7 114 rfl) rfl
theorem q1622 : (Jvm.Cond.methodLink "TraceWardenLaw" (106 : Nat) ({ cls := "TraceWardenModel", name := "report", desc := "()I" } : Jvm.MethodName)) ∈ lw_all := lw_g (lw_at lw_m7 118 rfl) rfl
theorem q1644 : (Jvm.Cond.methodLink "TraceWardenLaw" (111 : Nat) ({ cls := "TraceWardenModel", name := "said", desc := "(I)C" } : Jvm.MethodName)) ∈ lw_all := lw_g (lw_at lw_m7 140 rfl) rfl
theorem q1648 : (Jvm.Cond.constantLong "TraceWardenLaw" (50 : Nat) (4294967295 : Int64)) ∈ lw_all := lw_g (lw_at lw_m7 144 rfl) rfl

/-! TraceWarden -/
def RX1 : String := "TraceWarden"
def TX1 : u_T := fun k => match k with
  | 0 => ("TraceWarden", "reader", "LTraceWarden$Reader;", true)
  | 1 => ("TraceWarden", "duties", "LTraceWarden$Duties;", true)
  | 2 => ("TraceWarden", "conditions", "[LTraceWarden$Row;", true)
  | 3 => ("TraceWarden", "conditionCount", "I", false)
  | 4 => ("TraceWarden", "to", "[I", true)
  | 5 => ("TraceWarden", "like", "[I", true)
  | 6 => ("TraceWarden", "likeThen", "[I", true)
  | 7 => ("TraceWarden", "stateOf", "[I", true)
  | 8 => ("TraceWarden", "scratch", "LTraceWarden$Row;", true)
  | 9 => ("TraceWarden", "monitor", "LTraceWarden$Monitor;", false)
  | 10 => ("TraceWarden", "circuit", "LTraceWarden$Circuit;", false)
  | 11 => ("TraceWarden", "obligations", "I", false)
  | 12 => ("TraceWarden", "conditionsThen", "I", false)
  | 13 => ("TraceWarden", "fault", "I", false)
  | 14 => ("TraceWarden", "trace", "[B", true)
  | 15 => ("TraceWarden", "time", "I", false)
  | 16 => ("TraceWarden", "now", "LTraceWarden$State;", false)
  | 17 => ("TraceWarden", "failed", "Z", false)
  | 18 => ("TraceWarden", "window", "I", false)
  | _ => ("TraceWarden", "said", "Ljava/lang/String;", false)
def tyX1 : Nat → FieldType := fun k => match k with
  | 0 => .object "TraceWarden$Reader"
  | 1 => .object "TraceWarden$Duties"
  | 2 => .array (.object "TraceWarden$Row")
  | 3 => .int
  | 4 => .array .int
  | 5 => .array .int
  | 6 => .array .int
  | 7 => .array .int
  | 8 => .object "TraceWarden$Row"
  | 9 => .object "TraceWarden$Monitor"
  | 10 => .object "TraceWarden$Circuit"
  | 11 => .int
  | 12 => .int
  | 13 => .int
  | 14 => .array .byte
  | 15 => .int
  | 16 => .object "TraceWarden$State"
  | 17 => .boolean
  | 18 => .int
  | _ => .object "java/lang/String"
abbrev wsX10 : List Cond := u_ws RX1 TX1 20
theorem nmX1 : ∀ a, a < 20 → ∀ b, b < 20 → a ≠ b → (TX1 a).2.1 ≠ (TX1 b).2.1 := by decide +kernel
theorem tyX1_ok : ∀ k, k < 20 → parseFieldDescriptor (TX1 k).2.2.1 = some (tyX1 k) := by decide +kernel
abbrev cX1_init : ByteArray := prog_1_method_1_code
def yX1_init : MethodName := ⟨RX1, "<init>", "()V"⟩
abbrev cX1_text : ByteArray := prog_1_method_2_code
def yX1_text : MethodName := ⟨RX1, "text", "(J)I"⟩
abbrev cX1_wipe : ByteArray := prog_1_method_3_code
def yX1_wipe : MethodName := ⟨RX1, "wipe", "()V"⟩
abbrev cX1_fault : ByteArray := prog_1_method_10_code
def yX1_fault : MethodName := ⟨RX1, "fault", "()I"⟩
abbrev cX1_time : ByteArray := prog_1_method_20_code
def yX1_time : MethodName := ⟨RX1, "time", "()I"⟩
abbrev cX1_window : ByteArray := prog_1_method_21_code
def yX1_window : MethodName := ⟨RX1, "window", "()I"⟩
abbrev cX1_report : ByteArray := prog_1_method_23_code
def yX1_report : MethodName := ⟨RX1, "report", "()I"⟩
abbrev cX1_said : ByteArray := prog_1_method_24_code
def yX1_said : MethodName := ⟨RX1, "said", "(I)C"⟩
abbrev cX1_within : ByteArray := prog_1_method_13_code
def yX1_within : MethodName := ⟨RX1, "within", "(II)Z"⟩
abbrev cX1_compile : ByteArray := prog_1_method_9_code
def yX1_compile : MethodName := ⟨RX1, "compile", "()I"⟩
abbrev cX1_reach : ByteArray := prog_1_method_4_code
def yX1_reach : MethodName := ⟨RX1, "reach", "(LTraceWarden$Part;)V"⟩
abbrev cX1_fail : ByteArray := prog_1_method_5_code
def yX1_fail : MethodName := ⟨RX1, "fail", "()V"⟩
abbrev cX1_part : ByteArray := prog_1_method_7_code
def yX1_part : MethodName := ⟨RX1, "part", "()V"⟩
abbrev cX1_alike : ByteArray := prog_1_method_6_code
def yX1_alike : MethodName := ⟨RX1, "alike", "(II)Z"⟩
abbrev cX1_number : ByteArray := prog_1_method_8_code
def yX1_number : MethodName := ⟨RX1, "number", "(LTraceWarden$Monitor;)V"⟩
abbrev cX1_size : ByteArray := prog_1_method_12_code
def yX1_size : MethodName := ⟨RX1, "size", "(I)I"⟩
abbrev cX1_needCompiled : ByteArray := prog_1_method_11_code
def yX1_needCompiled : MethodName := ⟨RX1, "needCompiled", "()V"⟩
abbrev cX1_next : ByteArray := prog_1_method_15_code
def yX1_next : MethodName := ⟨RX1, "next", "(II)I"⟩
abbrev cX1_numberOf : ByteArray := prog_1_method_14_code
def yX1_numberOf : MethodName := ⟨RX1, "numberOf", "(LTraceWarden$State;)I"⟩
abbrev cX1_output : ByteArray := prog_1_method_16_code
def yX1_output : MethodName := ⟨RX1, "output", "(III)Z"⟩
abbrev cX1_begin : ByteArray := prog_1_method_17_code
def yX1_begin : MethodName := ⟨RX1, "begin", "()Z"⟩
abbrev cX1_step : ByteArray := prog_1_method_19_code
def yX1_step : MethodName := ⟨RX1, "step", "(I)I"⟩
abbrev cX1_along : ByteArray := prog_1_method_18_code
def yX1_along : MethodName := ⟨RX1, "along", "(LTraceWarden$State;II)LTraceWarden$State;"⟩
abbrev cX1_loop : ByteArray := prog_1_method_22_code
def yX1_loop : MethodName := ⟨RX1, "loop", "(I)Z"⟩
theorem q65 : (Jvm.Cond.initialized "TraceWarden") ∈ lw_all := lw_g (lw_at lw_m1 1 rfl) rfl
theorem q102 : (Jvm.Cond.instantiable "TraceWarden" (20 : Nat)) ∈ lw_all := lw_g (lw_at lw_m1 38 rfl) rfl
theorem q104 : (Jvm.Cond.instanceMethod ({ cls := "TraceWarden", name := "<init>", desc := "()V" } : Jvm.MethodName)) ∈ lw_all := lw_g (lw_at lw_m1 40 rfl) rfl
theorem q105 : (Jvm.Cond.code ({ cls := "TraceWarden", name := "<init>", desc := "()V" } : Jvm.MethodName) prog_1_method_1_code (2 : Nat) (Option.none : Option Jvm.ClassFile.FieldType)) ∈ lw_all := lw_g (lw_at lw_m1 41 rfl) rfl
theorem q106 : (Jvm.Cond.methodLink "TraceWarden" (1 : Nat) ({ cls := "java/lang/Object", name := "<init>", desc := "()V" } : Jvm.MethodName)) ∈ lw_all := lw_g (lw_at lw_m1 42 rfl) rfl
theorem q109 : (Jvm.Cond.classLink "TraceWarden" (7 : Nat) "TraceWarden$Reader") ∈ lw_all := lw_g (lw_at lw_m1 45 rfl) rfl
theorem q111 : (Jvm.Cond.methodLinkNest "TraceWarden" (9 : Nat) ({ cls := "TraceWarden$Reader", name := "<init>", desc := "()V" } : Jvm.MethodName) "TraceWarden") ∈ lw_tbl := lw_at lw_m1 47 rfl
theorem q143 : (Jvm.Cond.fieldLinkNest "TraceWarden" (90 : Nat) "TraceWarden$Reader" "text" "[C" "TraceWarden") ∈ lw_tbl := lw_at lw_m1 79 rfl
theorem q144 : (Jvm.Cond.fieldLinkNest "TraceWarden" (87 : Nat) "TraceWarden$Reader" "length" "I" "TraceWarden") ∈ lw_tbl := lw_at lw_m1 80 rfl
theorem q147 : (Jvm.Cond.fieldLinkNest "TraceWarden" (144 : Nat) "TraceWarden$Reader" "at" "I" "TraceWarden") ∈ lw_tbl := lw_at lw_m1 83 rfl
theorem q161 : (Jvm.Cond.classLink "TraceWarden" (16 : Nat) "TraceWarden$Duties") ∈ lw_all := lw_g (lw_at lw_m1 97 rfl) rfl
theorem q163 : (Jvm.Cond.methodLink "TraceWarden" (18 : Nat) ({ cls := "TraceWarden$Duties", name := "<init>", desc := "()V" } : Jvm.MethodName)) ∈ lw_all := lw_g (lw_at lw_m1 99 rfl) rfl
theorem q181 : (Jvm.Cond.fieldLinkNest "TraceWarden" (121 : Nat) "TraceWarden$Row" "many" "I" "TraceWarden") ∈ lw_tbl := lw_at lw_m1 117 rfl
theorem q191 : (Jvm.Cond.fieldLinkNest "TraceWarden" (168 : Nat) "TraceWarden$Duties" "many" "I" "TraceWarden") ∈ lw_tbl := lw_at lw_m1 127 rfl
theorem q219 : (Jvm.Cond.classLink "TraceWarden" (23 : Nat) "TraceWarden$Row") ∈ lw_all := lw_g (lw_at lw_m1 155 rfl) rfl
theorem q220 : (Jvm.Cond.methodLinkNest "TraceWarden" (42 : Nat) ({ cls := "TraceWarden$Row", name := "<init>", desc := "()V" } : Jvm.MethodName) "TraceWarden") ∈ lw_tbl := lw_at lw_m1 156 rfl
theorem q221 : (Jvm.Cond.classLink "TraceWarden" (47 : Nat) "TraceWarden$Monitor") ∈ lw_all := lw_g (lw_at lw_m1 157 rfl) rfl
theorem q223 : (Jvm.Cond.methodLink "TraceWarden" (49 : Nat) ({ cls := "TraceWarden$Monitor", name := "<init>", desc := "()V" } : Jvm.MethodName)) ∈ lw_all := lw_g (lw_at lw_m1 159 rfl) rfl
theorem q237 : (Jvm.Cond.fieldLinkNest "TraceWarden" (185 : Nat) "TraceWarden$State" "number" "I" "TraceWarden") ∈ lw_tbl := lw_at lw_m1 173 rfl
theorem q240 : (Jvm.Cond.fieldLinkNest "TraceWarden" (133 : Nat) "TraceWarden$State" "next" "[LTraceWarden$State;" "TraceWarden") ∈ lw_tbl := lw_at lw_m1 176 rfl
theorem q248 : (Jvm.Cond.fieldLinkNest "TraceWarden" (129 : Nat) "TraceWarden$Monitor" "states" "[LTraceWarden$State;" "TraceWarden") ∈ lw_tbl := lw_at lw_m1 184 rfl
theorem q251 : (Jvm.Cond.fieldLinkNest "TraceWarden" (128 : Nat) "TraceWarden$Monitor" "many" "I" "TraceWarden") ∈ lw_tbl := lw_at lw_m1 187 rfl
theorem q257 : (Jvm.Cond.classLink "TraceWarden" (54 : Nat) "TraceWarden$Circuit") ∈ lw_all := lw_g (lw_at lw_m1 193 rfl) rfl
theorem q259 : (Jvm.Cond.methodLink "TraceWarden" (56 : Nat) ({ cls := "TraceWarden$Circuit", name := "<init>", desc := "()V" } : Jvm.MethodName)) ∈ lw_all := lw_g (lw_at lw_m1 195 rfl) rfl
theorem q294 : (Jvm.Cond.fieldLinkNest "TraceWarden" (178 : Nat) "TraceWarden$Circuit" "bits" "I" "TraceWarden") ∈ lw_tbl := lw_at lw_m1 230 rfl
theorem q314 : (Jvm.Cond.stringRef "TraceWarden" (75 : Nat) "") ∈ lw_tbl := lw_at lw_m2 10 rfl
theorem q315 : (Jvm.Cond.fieldLink "TraceWarden" (10 : Nat) "TraceWarden" "reader" "LTraceWarden$Reader;") ∈ lw_all := lw_g (lw_at lw_m2 11 rfl) rfl
theorem q316 : (Jvm.Cond.fieldLink "TraceWarden" (19 : Nat) "TraceWarden" "duties" "LTraceWarden$Duties;") ∈ lw_all := lw_g (lw_at lw_m2 12 rfl) rfl
theorem q317 : (Jvm.Cond.fieldLink "TraceWarden" (25 : Nat) "TraceWarden" "conditions" "[LTraceWarden$Row;") ∈ lw_all := lw_g (lw_at lw_m2 13 rfl) rfl
theorem q318 : (Jvm.Cond.fieldLink "TraceWarden" (103 : Nat) "TraceWarden" "conditionCount" "I") ∈ lw_all := lw_g (lw_at lw_m2 14 rfl) rfl
theorem q319 : (Jvm.Cond.fieldLink "TraceWarden" (29 : Nat) "TraceWarden" "to" "[I") ∈ lw_all := lw_g (lw_at lw_m2 15 rfl) rfl
theorem q320 : (Jvm.Cond.fieldLink "TraceWarden" (33 : Nat) "TraceWarden" "like" "[I") ∈ lw_all := lw_g (lw_at lw_m2 16 rfl) rfl
theorem q321 : (Jvm.Cond.fieldLink "TraceWarden" (36 : Nat) "TraceWarden" "likeThen" "[I") ∈ lw_all := lw_g (lw_at lw_m2 17 rfl) rfl
theorem q322 : (Jvm.Cond.fieldLink "TraceWarden" (39 : Nat) "TraceWarden" "stateOf" "[I") ∈ lw_all := lw_g (lw_at lw_m2 18 rfl) rfl
theorem q323 : (Jvm.Cond.fieldLink "TraceWarden" (43 : Nat) "TraceWarden" "scratch" "LTraceWarden$Row;") ∈ lw_all := lw_g (lw_at lw_m2 19 rfl) rfl
theorem q324 : (Jvm.Cond.fieldLink "TraceWarden" (50 : Nat) "TraceWarden" "monitor" "LTraceWarden$Monitor;") ∈ lw_all := lw_g (lw_at lw_m2 20 rfl) rfl
theorem q325 : (Jvm.Cond.fieldLink "TraceWarden" (57 : Nat) "TraceWarden" "circuit" "LTraceWarden$Circuit;") ∈ lw_all := lw_g (lw_at lw_m2 21 rfl) rfl
theorem q326 : (Jvm.Cond.fieldLink "TraceWarden" (61 : Nat) "TraceWarden" "obligations" "I") ∈ lw_all := lw_g (lw_at lw_m2 22 rfl) rfl
theorem q327 : (Jvm.Cond.fieldLink "TraceWarden" (169 : Nat) "TraceWarden" "conditionsThen" "I") ∈ lw_all := lw_g (lw_at lw_m2 23 rfl) rfl
theorem q328 : (Jvm.Cond.fieldLink "TraceWarden" (65 : Nat) "TraceWarden" "fault" "I") ∈ lw_all := lw_g (lw_at lw_m2 24 rfl) rfl
theorem q329 : (Jvm.Cond.fieldLink "TraceWarden" (68 : Nat) "TraceWarden" "trace" "[B") ∈ lw_all := lw_g (lw_at lw_m2 25 rfl) rfl
theorem q330 : (Jvm.Cond.fieldLink "TraceWarden" (72 : Nat) "TraceWarden" "time" "I") ∈ lw_all := lw_g (lw_at lw_m2 26 rfl) rfl
theorem q331 : (Jvm.Cond.fieldLink "TraceWarden" (208 : Nat) "TraceWarden" "now" "LTraceWarden$State;") ∈ lw_all := lw_g (lw_at lw_m2 27 rfl) rfl
theorem q332 : (Jvm.Cond.fieldLink "TraceWarden" (212 : Nat) "TraceWarden" "failed" "Z") ∈ lw_all := lw_g (lw_at lw_m2 28 rfl) rfl
theorem q333 : (Jvm.Cond.fieldLink "TraceWarden" (216 : Nat) "TraceWarden" "window" "I") ∈ lw_all := lw_g (lw_at lw_m2 29 rfl) rfl
theorem q334 : (Jvm.Cond.fieldLink "TraceWarden" (77 : Nat) "TraceWarden" "said" "Ljava/lang/String;") ∈ lw_all := lw_g (lw_at lw_m2 30 rfl) rfl
theorem q335 : (Jvm.Cond.laysFinal "TraceWarden" "TraceWarden" "reader" "LTraceWarden$Reader;") ∈ lw_all := lw_g (lw_at lw_m2 31 rfl) rfl
theorem q336 : (Jvm.Cond.soleField "TraceWarden" "reader") ∈ lw_all := lw_g (lw_at lw_m2 32 rfl) rfl
theorem q337 : (Jvm.Cond.laysFinal "TraceWarden" "TraceWarden" "duties" "LTraceWarden$Duties;") ∈ lw_all := lw_g (lw_at lw_m2 33 rfl) rfl
theorem q338 : (Jvm.Cond.soleField "TraceWarden" "duties") ∈ lw_all := lw_g (lw_at lw_m2 34 rfl) rfl
theorem q339 : (Jvm.Cond.laysFinal "TraceWarden" "TraceWarden" "conditions" "[LTraceWarden$Row;") ∈ lw_all := lw_g (lw_at lw_m2 35 rfl) rfl
theorem q340 : (Jvm.Cond.soleField "TraceWarden" "conditions") ∈ lw_all := lw_g (lw_at lw_m2 36 rfl) rfl
theorem q341 : (Jvm.Cond.lays "TraceWarden" "TraceWarden" "conditionCount" "I") ∈ lw_all := lw_g (lw_at lw_m2 37 rfl) rfl
theorem q342 : (Jvm.Cond.soleField "TraceWarden" "conditionCount") ∈ lw_all := lw_g (lw_at lw_m2 38 rfl) rfl
theorem q343 : (Jvm.Cond.laysFinal "TraceWarden" "TraceWarden" "to" "[I") ∈ lw_all := lw_g (lw_at lw_m2 39 rfl) rfl
theorem q344 : (Jvm.Cond.soleField "TraceWarden" "to") ∈ lw_all := lw_g (lw_at lw_m2 40 rfl) rfl
theorem q345 : (Jvm.Cond.laysFinal "TraceWarden" "TraceWarden" "like" "[I") ∈ lw_all := lw_g (lw_at lw_m2 41 rfl) rfl
theorem q346 : (Jvm.Cond.soleField "TraceWarden" "like") ∈ lw_all := lw_g (lw_at lw_m2 42 rfl) rfl
theorem q347 : (Jvm.Cond.laysFinal "TraceWarden" "TraceWarden" "likeThen" "[I") ∈ lw_all := lw_g (lw_at lw_m2 43 rfl) rfl
theorem q348 : (Jvm.Cond.soleField "TraceWarden" "likeThen") ∈ lw_all := lw_g (lw_at lw_m2 44 rfl) rfl
theorem q349 : (Jvm.Cond.laysFinal "TraceWarden" "TraceWarden" "stateOf" "[I") ∈ lw_all := lw_g (lw_at lw_m2 45 rfl) rfl
theorem q350 : (Jvm.Cond.soleField "TraceWarden" "stateOf") ∈ lw_all := lw_g (lw_at lw_m2 46 rfl) rfl
theorem q351 : (Jvm.Cond.laysFinal "TraceWarden" "TraceWarden" "scratch" "LTraceWarden$Row;") ∈ lw_all := lw_g (lw_at lw_m2 47 rfl) rfl
theorem q352 : (Jvm.Cond.soleField "TraceWarden" "scratch") ∈ lw_all := lw_g (lw_at lw_m2 48 rfl) rfl
theorem q353 : (Jvm.Cond.lays "TraceWarden" "TraceWarden" "monitor" "LTraceWarden$Monitor;") ∈ lw_all := lw_g (lw_at lw_m2 49 rfl) rfl
theorem q354 : (Jvm.Cond.soleField "TraceWarden" "monitor") ∈ lw_all := lw_g (lw_at lw_m2 50 rfl) rfl
theorem q355 : (Jvm.Cond.lays "TraceWarden" "TraceWarden" "circuit" "LTraceWarden$Circuit;") ∈ lw_all := lw_g (lw_at lw_m2 51 rfl) rfl
theorem q356 : (Jvm.Cond.soleField "TraceWarden" "circuit") ∈ lw_all := lw_g (lw_at lw_m2 52 rfl) rfl
theorem q357 : (Jvm.Cond.lays "TraceWarden" "TraceWarden" "obligations" "I") ∈ lw_all := lw_g (lw_at lw_m2 53 rfl) rfl
theorem q358 : (Jvm.Cond.soleField "TraceWarden" "obligations") ∈ lw_all := lw_g (lw_at lw_m2 54 rfl) rfl
theorem q359 : (Jvm.Cond.lays "TraceWarden" "TraceWarden" "conditionsThen" "I") ∈ lw_all := lw_g (lw_at lw_m2 55 rfl) rfl
theorem q360 : (Jvm.Cond.soleField "TraceWarden" "conditionsThen") ∈ lw_all := lw_g (lw_at lw_m2 56 rfl) rfl
theorem q361 : (Jvm.Cond.lays "TraceWarden" "TraceWarden" "fault" "I") ∈ lw_all := lw_g (lw_at lw_m2 57 rfl) rfl
theorem q362 : (Jvm.Cond.soleField "TraceWarden" "fault") ∈ lw_all := lw_g (lw_at lw_m2 58 rfl) rfl
theorem q363 : (Jvm.Cond.laysFinal "TraceWarden" "TraceWarden" "trace" "[B") ∈ lw_all := lw_g (lw_at lw_m2 59 rfl) rfl
theorem q364 : (Jvm.Cond.soleField "TraceWarden" "trace") ∈ lw_all := lw_g (lw_at lw_m2 60 rfl) rfl
theorem q365 : (Jvm.Cond.lays "TraceWarden" "TraceWarden" "time" "I") ∈ lw_all := lw_g (lw_at lw_m2 61 rfl) rfl
theorem q366 : (Jvm.Cond.soleField "TraceWarden" "time") ∈ lw_all := lw_g (lw_at lw_m2 62 rfl) rfl
theorem q367 : (Jvm.Cond.lays "TraceWarden" "TraceWarden" "now" "LTraceWarden$State;") ∈ lw_all := lw_g (lw_at lw_m2 63 rfl) rfl
theorem q368 : (Jvm.Cond.soleField "TraceWarden" "now") ∈ lw_all := lw_g (lw_at lw_m2 64 rfl) rfl
theorem q369 : (Jvm.Cond.lays "TraceWarden" "TraceWarden" "failed" "Z") ∈ lw_all := lw_g (lw_at lw_m2 65 rfl) rfl
theorem q370 : (Jvm.Cond.soleField "TraceWarden" "failed") ∈ lw_all := lw_g (lw_at lw_m2 66 rfl) rfl
theorem q371 : (Jvm.Cond.lays "TraceWarden" "TraceWarden" "window" "I") ∈ lw_all := lw_g (lw_at lw_m2 67 rfl) rfl
theorem q372 : (Jvm.Cond.soleField "TraceWarden" "window") ∈ lw_all := lw_g (lw_at lw_m2 68 rfl) rfl
theorem q373 : (Jvm.Cond.lays "TraceWarden" "TraceWarden" "said" "Ljava/lang/String;") ∈ lw_all := lw_g (lw_at lw_m2 69 rfl) rfl
theorem q374 : (Jvm.Cond.soleField "TraceWarden" "said") ∈ lw_all := lw_g (lw_at lw_m2 70 rfl) rfl
theorem q375 : (Jvm.Cond.superclass "TraceWarden" "java/lang/Object") ∈ lw_all := lw_g (lw_at lw_m2 71 rfl) rfl
theorem q378 : (Jvm.Cond.instanceMethod ({ cls := "TraceWarden", name := "text", desc := "(J)I" } : Jvm.MethodName)) ∈ lw_all := lw_g (lw_at lw_m2 74 rfl) rfl
theorem q379 : (Jvm.Cond.selects "TraceWarden" ({ cls := "TraceWarden", name := "text", desc := "(J)I" } : Jvm.MethodName) ({ cls := "TraceWarden", name := "text", desc := "(J)I" } : Jvm.MethodName)) ∈ lw_all := lw_g (lw_at lw_m2 75 rfl) rfl
theorem q380 : (Jvm.Cond.code ({ cls := "TraceWarden", name := "text", desc := "(J)I" } : Jvm.MethodName) prog_1_method_2_code (6 : Nat) (Option.some Jvm.ClassFile.FieldType.int)) ∈ lw_all := lw_g (lw_at lw_m2 76 rfl) rfl
theorem q381 : (Jvm.Cond.constantLong "TraceWarden" (81 : Nat) (255 : Int64)) ∈ lw_all := lw_g (lw_at lw_m2 77 rfl) rfl
theorem q382 : (Jvm.Cond.constantLong "TraceWarden" (83 : Nat) (33 : Int64)) ∈ lw_all := lw_g (lw_at lw_m2 78 rfl) rfl
theorem q383 : (Jvm.Cond.constantLong "TraceWarden" (85 : Nat) (126 : Int64)) ∈ lw_all := lw_g (lw_at lw_m2 79 rfl) rfl
theorem q385 : (Jvm.Cond.instanceMethod ({ cls := "TraceWarden", name := "wipe", desc := "()V" } : Jvm.MethodName)) ∈ lw_all := lw_g (lw_at lw_m2 81 rfl) rfl
theorem q386 : (Jvm.Cond.selects "TraceWarden" ({ cls := "TraceWarden", name := "wipe", desc := "()V" } : Jvm.MethodName) ({ cls := "TraceWarden", name := "wipe", desc := "()V" } : Jvm.MethodName)) ∈ lw_all := lw_g (lw_at lw_m2 82 rfl) rfl
theorem q387 : (Jvm.Cond.code ({ cls := "TraceWarden", name := "wipe", desc := "()V" } : Jvm.MethodName) prog_1_method_3_code (1 : Nat) (Option.none : Option Jvm.ClassFile.FieldType)) ∈ lw_all := lw_g (lw_at lw_m2 83 rfl) rfl
theorem q389 : (Jvm.Cond.instanceMethod ({ cls := "TraceWarden", name := "fault", desc := "()I" } : Jvm.MethodName)) ∈ lw_all := lw_g (lw_at lw_m2 85 rfl) rfl
theorem q390 : (Jvm.Cond.selects "TraceWarden" ({ cls := "TraceWarden", name := "fault", desc := "()I" } : Jvm.MethodName) ({ cls := "TraceWarden", name := "fault", desc := "()I" } : Jvm.MethodName)) ∈ lw_all := lw_g (lw_at lw_m2 86 rfl) rfl
theorem q391 : (Jvm.Cond.code ({ cls := "TraceWarden", name := "fault", desc := "()I" } : Jvm.MethodName) prog_1_method_10_code (1 : Nat) (Option.some Jvm.ClassFile.FieldType.int)) ∈ lw_all := lw_g (lw_at lw_m2 87 rfl) rfl
theorem q393 : (Jvm.Cond.instanceMethod ({ cls := "TraceWarden", name := "time", desc := "()I" } : Jvm.MethodName)) ∈ lw_all := lw_g (lw_at lw_m2 89 rfl) rfl
theorem q394 : (Jvm.Cond.selects "TraceWarden" ({ cls := "TraceWarden", name := "time", desc := "()I" } : Jvm.MethodName) ({ cls := "TraceWarden", name := "time", desc := "()I" } : Jvm.MethodName)) ∈ lw_all := lw_g (lw_at lw_m2 90 rfl) rfl
theorem q395 : (Jvm.Cond.code ({ cls := "TraceWarden", name := "time", desc := "()I" } : Jvm.MethodName) prog_1_method_20_code (1 : Nat) (Option.some Jvm.ClassFile.FieldType.int)) ∈ lw_all := lw_g (lw_at lw_m2 91 rfl) rfl
theorem q397 : (Jvm.Cond.instanceMethod ({ cls := "TraceWarden", name := "window", desc := "()I" } : Jvm.MethodName)) ∈ lw_all := lw_g (lw_at lw_m2 93 rfl) rfl
theorem q398 : (Jvm.Cond.selects "TraceWarden" ({ cls := "TraceWarden", name := "window", desc := "()I" } : Jvm.MethodName) ({ cls := "TraceWarden", name := "window", desc := "()I" } : Jvm.MethodName)) ∈ lw_all := lw_g (lw_at lw_m2 94 rfl) rfl
theorem q399 : (Jvm.Cond.code ({ cls := "TraceWarden", name := "window", desc := "()I" } : Jvm.MethodName) prog_1_method_21_code (1 : Nat) (Option.some Jvm.ClassFile.FieldType.int)) ∈ lw_all := lw_g (lw_at lw_m2 95 rfl) rfl
theorem q401 : (Jvm.Cond.instanceMethod ({ cls := "TraceWarden", name := "report", desc := "()I" } : Jvm.MethodName)) ∈ lw_all := lw_g (lw_at lw_m2 97 rfl) rfl
theorem q402 : (Jvm.Cond.selects "TraceWarden" ({ cls := "TraceWarden", name := "report", desc := "()I" } : Jvm.MethodName) ({ cls := "TraceWarden", name := "report", desc := "()I" } : Jvm.MethodName)) ∈ lw_all := lw_g (lw_at lw_m2 98 rfl) rfl
theorem q403 : (Jvm.Cond.code ({ cls := "TraceWarden", name := "report", desc := "()I" } : Jvm.MethodName) prog_1_method_23_code (1 : Nat) (Option.some Jvm.ClassFile.FieldType.int)) ∈ lw_all := lw_g (lw_at lw_m2 99 rfl) rfl
theorem q404 : (Jvm.Cond.stringRef "TraceWarden" (223 : Nat) "none") ∈ lw_tbl := lw_at lw_m2 100 rfl
theorem q405 : (Jvm.Cond.classLink "TraceWarden" (225 : Nat) "java/lang/StringBuilder") ∈ lw_all := lw_g (lw_at lw_m2 101 rfl) rfl
theorem q407 : (Jvm.Cond.methodLink "TraceWarden" (227 : Nat) ({ cls := "java/lang/StringBuilder", name := "<init>", desc := "()V" } : Jvm.MethodName)) ∈ lw_all := lw_g (lw_at lw_m2 103 rfl) rfl
theorem q436 : (Jvm.Cond.stringRef "TraceWarden" (228 : Nat) "ready ") ∈ lw_tbl := lw_at lw_m2 132 rfl
theorem q437 : (Jvm.Cond.methodLink "TraceWarden" (230 : Nat) ({ cls := "java/lang/StringBuilder", name := "append", desc := "(Ljava/lang/String;)Ljava/lang/StringBuilder;" } : Jvm.MethodName)) ∈ lw_all := lw_g (lw_at lw_m2 133 rfl) rfl
theorem q557 : (Jvm.Cond.methodLink "TraceWarden" (234 : Nat) ({ cls := "java/lang/StringBuilder", name := "append", desc := "(I)Ljava/lang/StringBuilder;" } : Jvm.MethodName)) ∈ lw_all := lw_g (lw_at lw_m3 13 rfl) rfl
theorem q582 : (Jvm.Cond.methodLink "TraceWarden" (237 : Nat) ({ cls := "java/lang/StringBuilder", name := "toString", desc := "()Ljava/lang/String;" } : Jvm.MethodName)) ∈ lw_all := lw_g (lw_at lw_m3 38 rfl) rfl
theorem q717 : (Jvm.Cond.stringRef "TraceWarden" (241 : Nat) "failed ") ∈ lw_tbl := lw_at lw_m3 173 rfl
theorem q718 : (Jvm.Cond.stringRef "TraceWarden" (243 : Nat) " by ") ∈ lw_tbl := lw_at lw_m3 174 rfl
theorem q719 : (Jvm.Cond.stringRef "TraceWarden" (245 : Nat) "run ") ∈ lw_tbl := lw_at lw_m3 175 rfl
theorem q720 : (Jvm.Cond.stringRef "TraceWarden" (247 : Nat) " in ") ∈ lw_tbl := lw_at lw_m3 176 rfl
theorem q721 : (Jvm.Cond.methodLink "TraceWarden" (249 : Nat) ({ cls := "java/lang/String", name := "length", desc := "()I" } : Jvm.MethodName)) ∈ lw_all := lw_g (lw_at lw_m3 177 rfl) rfl
theorem q723 : (Jvm.Cond.instanceMethod ({ cls := "TraceWarden", name := "said", desc := "(I)C" } : Jvm.MethodName)) ∈ lw_all := lw_g (lw_at lw_m3 179 rfl) rfl
theorem q724 : (Jvm.Cond.selects "TraceWarden" ({ cls := "TraceWarden", name := "said", desc := "(I)C" } : Jvm.MethodName) ({ cls := "TraceWarden", name := "said", desc := "(I)C" } : Jvm.MethodName)) ∈ lw_all := lw_g (lw_at lw_m3 180 rfl) rfl
theorem q725 : (Jvm.Cond.code ({ cls := "TraceWarden", name := "said", desc := "(I)C" } : Jvm.MethodName) prog_1_method_24_code (2 : Nat) (Option.some Jvm.ClassFile.FieldType.char)) ∈ lw_all := lw_g (lw_at lw_m3 181 rfl) rfl
theorem q726 : (Jvm.Cond.methodLink "TraceWarden" (187 : Nat) ({ cls := "TraceWarden", name := "within", desc := "(II)Z" } : Jvm.MethodName)) ∈ lw_all := lw_g (lw_at lw_m3 182 rfl) rfl
theorem q727 : (Jvm.Cond.static ({ cls := "TraceWarden", name := "within", desc := "(II)Z" } : Jvm.MethodName)) ∈ lw_all := lw_g (lw_at lw_m3 183 rfl) rfl
theorem q728 : (Jvm.Cond.code ({ cls := "TraceWarden", name := "within", desc := "(II)Z" } : Jvm.MethodName) prog_1_method_13_code (2 : Nat) (Option.some Jvm.ClassFile.FieldType.boolean)) ∈ lw_all := lw_g (lw_at lw_m3 184 rfl) rfl
theorem q729 : (Jvm.Cond.methodLink "TraceWarden" (253 : Nat) ({ cls := "java/lang/String", name := "charAt", desc := "(I)C" } : Jvm.MethodName)) ∈ lw_all := lw_g (lw_at lw_m3 185 rfl) rfl
theorem q759 : (Jvm.Cond.instanceMethod ({ cls := "TraceWarden", name := "compile", desc := "()I" } : Jvm.MethodName)) ∈ lw_all := lw_g (lw_at lw_m3 215 rfl) rfl
theorem q760 : (Jvm.Cond.selects "TraceWarden" ({ cls := "TraceWarden", name := "compile", desc := "()I" } : Jvm.MethodName) ({ cls := "TraceWarden", name := "compile", desc := "()I" } : Jvm.MethodName)) ∈ lw_all := lw_g (lw_at lw_m3 216 rfl) rfl
theorem q761 : (Jvm.Cond.codeWith ({ cls := "TraceWarden", name := "compile", desc := "()I" } : Jvm.MethodName) prog_1_method_9_code (3 : Nat) (Option.some Jvm.ClassFile.FieldType.int) [((0 : Nat), (8 : Nat), (11 : Nat), (142 : Nat))]) ∈ lw_all := lw_g (lw_at lw_m3 217 rfl) rfl
theorem q762 : (Jvm.Cond.classLink "TraceWarden" (142 : Nat) "java/lang/IllegalArgumentException") ∈ lw_all := lw_g (lw_at lw_m3 218 rfl) rfl
theorem q763 : (Jvm.Cond.methodLink "TraceWarden" (138 : Nat) ({ cls := "TraceWarden$Reader", name := "whole", desc := "()LTraceWarden$Part;" } : Jvm.MethodName)) ∈ lw_all := lw_g (lw_at lw_m3 219 rfl) rfl
theorem q816 : (Jvm.Cond.fieldLinkNest "TraceWarden" (94 : Nat) "TraceWarden$Part" "own" "I" "TraceWarden") ∈ lw_tbl := lw_at lw_m4 32 rfl
theorem q860 : (Jvm.Cond.selects "TraceWarden" ({ cls := "java/lang/Object", name := "getClass", desc := "()Ljava/lang/Class;" } : Jvm.MethodName) ({ cls := "java/lang/Object", name := "getClass", desc := "()Ljava/lang/Class;" } : Jvm.MethodName)) ∈ lw_all := lw_g (lw_at lw_m4 76 rfl) rfl
theorem q960 : (Jvm.Cond.methodLink "TraceWarden" (147 : Nat) ({ cls := "java/lang/IllegalArgumentException", name := "<init>", desc := "()V" } : Jvm.MethodName)) ∈ lw_all := lw_g (lw_at lw_m4 176 rfl) rfl
theorem q961 : (Jvm.Cond.methodLink "TraceWarden" (148 : Nat) ({ cls := "TraceWarden$Duties", name := "take", desc := "(LTraceWarden$Part;)V" } : Jvm.MethodName)) ∈ lw_all := lw_g (lw_at lw_m4 177 rfl) rfl
theorem q1048 : (Jvm.Cond.methodLink "TraceWarden" (152 : Nat) ({ cls := "TraceWarden", name := "reach", desc := "(LTraceWarden$Part;)V" } : Jvm.MethodName)) ∈ lw_all := lw_g (lw_at lw_m5 24 rfl) rfl
theorem q1049 : (Jvm.Cond.privateMethod ({ cls := "TraceWarden", name := "reach", desc := "(LTraceWarden$Part;)V" } : Jvm.MethodName)) ∈ lw_tbl := lw_at lw_m5 25 rfl
theorem q1050 : (Jvm.Cond.instanceMethod ({ cls := "TraceWarden", name := "reach", desc := "(LTraceWarden$Part;)V" } : Jvm.MethodName)) ∈ lw_all := lw_g (lw_at lw_m5 26 rfl) rfl
theorem q1051 : (Jvm.Cond.code ({ cls := "TraceWarden", name := "reach", desc := "(LTraceWarden$Part;)V" } : Jvm.MethodName) prog_1_method_4_code (5 : Nat) (Option.none : Option Jvm.ClassFile.FieldType)) ∈ lw_all := lw_g (lw_at lw_m5 27 rfl) rfl
theorem q1052 : (Jvm.Cond.methodLink "TraceWarden" (99 : Nat) ({ cls := "TraceWarden$Row", name := "one", desc := "(I)V" } : Jvm.MethodName)) ∈ lw_all := lw_g (lw_at lw_m5 28 rfl) rfl
theorem q1053 : (Jvm.Cond.methodLink "TraceWarden" (106 : Nat) ({ cls := "TraceWarden$Duties", name := "pass", desc := "(LTraceWarden$Row;ILTraceWarden$Row;)V" } : Jvm.MethodName)) ∈ lw_all := lw_g (lw_at lw_m5 29 rfl) rfl
theorem q1057 : (Jvm.Cond.methodLink "TraceWarden" (110 : Nat) ({ cls := "TraceWarden$Row", name := "same", desc := "(LTraceWarden$Row;)Z" } : Jvm.MethodName)) ∈ lw_all := lw_g (lw_at lw_m5 33 rfl) rfl
theorem q1061 : (Jvm.Cond.classLink "TraceWarden" (114 : Nat) "java/lang/UnsupportedOperationException") ∈ lw_all := lw_g (lw_at lw_m5 37 rfl) rfl
theorem q1062 : (Jvm.Cond.methodLink "TraceWarden" (116 : Nat) ({ cls := "java/lang/UnsupportedOperationException", name := "<init>", desc := "()V" } : Jvm.MethodName)) ∈ lw_all := lw_g (lw_at lw_m5 38 rfl) rfl
theorem q1063 : (Jvm.Cond.methodLink "TraceWarden" (117 : Nat) ({ cls := "TraceWarden$Row", name := "copy", desc := "(LTraceWarden$Row;)V" } : Jvm.MethodName)) ∈ lw_all := lw_g (lw_at lw_m5 39 rfl) rfl
theorem q1064 : (Jvm.Cond.methodLink "TraceWarden" (155 : Nat) ({ cls := "TraceWarden", name := "fail", desc := "()V" } : Jvm.MethodName)) ∈ lw_all := lw_g (lw_at lw_m5 40 rfl) rfl
theorem q1065 : (Jvm.Cond.privateMethod ({ cls := "TraceWarden", name := "fail", desc := "()V" } : Jvm.MethodName)) ∈ lw_tbl := lw_at lw_m5 41 rfl
theorem q1066 : (Jvm.Cond.instanceMethod ({ cls := "TraceWarden", name := "fail", desc := "()V" } : Jvm.MethodName)) ∈ lw_all := lw_g (lw_at lw_m5 42 rfl) rfl
theorem q1067 : (Jvm.Cond.code ({ cls := "TraceWarden", name := "fail", desc := "()V" } : Jvm.MethodName) prog_1_method_5_code (5 : Nat) (Option.none : Option Jvm.ClassFile.FieldType)) ∈ lw_all := lw_g (lw_at lw_m5 43 rfl) rfl
theorem q1068 : (Jvm.Cond.methodLink "TraceWarden" (158 : Nat) ({ cls := "TraceWarden", name := "part", desc := "()V" } : Jvm.MethodName)) ∈ lw_all := lw_g (lw_at lw_m5 44 rfl) rfl
theorem q1069 : (Jvm.Cond.privateMethod ({ cls := "TraceWarden", name := "part", desc := "()V" } : Jvm.MethodName)) ∈ lw_tbl := lw_at lw_m5 45 rfl
theorem q1070 : (Jvm.Cond.instanceMethod ({ cls := "TraceWarden", name := "part", desc := "()V" } : Jvm.MethodName)) ∈ lw_all := lw_g (lw_at lw_m5 46 rfl) rfl
theorem q1071 : (Jvm.Cond.code ({ cls := "TraceWarden", name := "part", desc := "()V" } : Jvm.MethodName) prog_1_method_7_code (4 : Nat) (Option.none : Option Jvm.ClassFile.FieldType)) ∈ lw_all := lw_g (lw_at lw_m5 47 rfl) rfl
theorem q1072 : (Jvm.Cond.methodLink "TraceWarden" (124 : Nat) ({ cls := "TraceWarden", name := "alike", desc := "(II)Z" } : Jvm.MethodName)) ∈ lw_all := lw_g (lw_at lw_m5 48 rfl) rfl
theorem q1073 : (Jvm.Cond.privateMethod ({ cls := "TraceWarden", name := "alike", desc := "(II)Z" } : Jvm.MethodName)) ∈ lw_tbl := lw_at lw_m5 49 rfl
theorem q1074 : (Jvm.Cond.instanceMethod ({ cls := "TraceWarden", name := "alike", desc := "(II)Z" } : Jvm.MethodName)) ∈ lw_all := lw_g (lw_at lw_m5 50 rfl) rfl
theorem q1075 : (Jvm.Cond.code ({ cls := "TraceWarden", name := "alike", desc := "(II)Z" } : Jvm.MethodName) prog_1_method_6_code (5 : Nat) (Option.some Jvm.ClassFile.FieldType.boolean)) ∈ lw_all := lw_g (lw_at lw_m5 51 rfl) rfl
theorem q1076 : (Jvm.Cond.methodLink "TraceWarden" (161 : Nat) ({ cls := "TraceWarden", name := "number", desc := "(LTraceWarden$Monitor;)V" } : Jvm.MethodName)) ∈ lw_all := lw_g (lw_at lw_m5 52 rfl) rfl
theorem q1077 : (Jvm.Cond.privateMethod ({ cls := "TraceWarden", name := "number", desc := "(LTraceWarden$Monitor;)V" } : Jvm.MethodName)) ∈ lw_tbl := lw_at lw_m5 53 rfl
theorem q1078 : (Jvm.Cond.instanceMethod ({ cls := "TraceWarden", name := "number", desc := "(LTraceWarden$Monitor;)V" } : Jvm.MethodName)) ∈ lw_all := lw_g (lw_at lw_m5 54 rfl) rfl
theorem q1079 : (Jvm.Cond.code ({ cls := "TraceWarden", name := "number", desc := "(LTraceWarden$Monitor;)V" } : Jvm.MethodName) prog_1_method_8_code (6 : Nat) (Option.none : Option Jvm.ClassFile.FieldType)) ∈ lw_all := lw_g (lw_at lw_m5 55 rfl) rfl
theorem q1080 : (Jvm.Cond.methodLink "TraceWarden" (165 : Nat) ({ cls := "TraceWarden$Circuit", name := "plan", desc := "(LTraceWarden$Monitor;)V" } : Jvm.MethodName)) ∈ lw_all := lw_g (lw_at lw_m5 56 rfl) rfl
theorem q1089 : (Jvm.Cond.instanceMethod ({ cls := "TraceWarden", name := "size", desc := "(I)I" } : Jvm.MethodName)) ∈ lw_all := lw_g (lw_at lw_m5 65 rfl) rfl
theorem q1090 : (Jvm.Cond.selects "TraceWarden" ({ cls := "TraceWarden", name := "size", desc := "(I)I" } : Jvm.MethodName) ({ cls := "TraceWarden", name := "size", desc := "(I)I" } : Jvm.MethodName)) ∈ lw_all := lw_g (lw_at lw_m5 66 rfl) rfl
theorem q1091 : (Jvm.Cond.code ({ cls := "TraceWarden", name := "size", desc := "(I)I" } : Jvm.MethodName) prog_1_method_12_code (2 : Nat) (Option.some Jvm.ClassFile.FieldType.int)) ∈ lw_all := lw_g (lw_at lw_m5 67 rfl) rfl
theorem q1092 : (Jvm.Cond.methodLink "TraceWarden" (175 : Nat) ({ cls := "TraceWarden", name := "needCompiled", desc := "()V" } : Jvm.MethodName)) ∈ lw_all := lw_g (lw_at lw_m5 68 rfl) rfl
theorem q1093 : (Jvm.Cond.privateMethod ({ cls := "TraceWarden", name := "needCompiled", desc := "()V" } : Jvm.MethodName)) ∈ lw_tbl := lw_at lw_m5 69 rfl
theorem q1094 : (Jvm.Cond.instanceMethod ({ cls := "TraceWarden", name := "needCompiled", desc := "()V" } : Jvm.MethodName)) ∈ lw_all := lw_g (lw_at lw_m5 70 rfl) rfl
theorem q1095 : (Jvm.Cond.code ({ cls := "TraceWarden", name := "needCompiled", desc := "()V" } : Jvm.MethodName) prog_1_method_11_code (1 : Nat) (Option.none : Option Jvm.ClassFile.FieldType)) ∈ lw_all := lw_g (lw_at lw_m5 71 rfl) rfl
theorem q1096 : (Jvm.Cond.classLink "TraceWarden" (172 : Nat) "java/lang/IllegalStateException") ∈ lw_all := lw_g (lw_at lw_m5 72 rfl) rfl
theorem q1105 : (Jvm.Cond.methodLink "TraceWarden" (174 : Nat) ({ cls := "java/lang/IllegalStateException", name := "<init>", desc := "()V" } : Jvm.MethodName)) ∈ lw_all := lw_g (lw_at lw_m5 81 rfl) rfl
theorem q1111 : (Jvm.Cond.methodLink "TraceWarden" (181 : Nat) ({ cls := "TraceWarden$Circuit", name := "size", desc := "()I" } : Jvm.MethodName)) ∈ lw_all := lw_g (lw_at lw_m5 87 rfl) rfl
theorem q1142 : (Jvm.Cond.instanceMethod ({ cls := "TraceWarden", name := "next", desc := "(II)I" } : Jvm.MethodName)) ∈ lw_all := lw_g (lw_at lw_m5 118 rfl) rfl
theorem q1143 : (Jvm.Cond.selects "TraceWarden" ({ cls := "TraceWarden", name := "next", desc := "(II)I" } : Jvm.MethodName) ({ cls := "TraceWarden", name := "next", desc := "(II)I" } : Jvm.MethodName)) ∈ lw_all := lw_g (lw_at lw_m5 119 rfl) rfl
theorem q1144 : (Jvm.Cond.code ({ cls := "TraceWarden", name := "next", desc := "(II)I" } : Jvm.MethodName) prog_1_method_15_code (3 : Nat) (Option.some Jvm.ClassFile.FieldType.int)) ∈ lw_all := lw_g (lw_at lw_m5 120 rfl) rfl
theorem q1145 : (Jvm.Cond.classLink "TraceWarden" (190 : Nat) "java/util/NoSuchElementException") ∈ lw_all := lw_g (lw_at lw_m5 121 rfl) rfl
theorem q1154 : (Jvm.Cond.methodLink "TraceWarden" (192 : Nat) ({ cls := "java/util/NoSuchElementException", name := "<init>", desc := "()V" } : Jvm.MethodName)) ∈ lw_all := lw_g (lw_at lw_m5 130 rfl) rfl
theorem q1160 : (Jvm.Cond.methodLink "TraceWarden" (193 : Nat) ({ cls := "TraceWarden", name := "numberOf", desc := "(LTraceWarden$State;)I" } : Jvm.MethodName)) ∈ lw_all := lw_g (lw_at lw_m5 136 rfl) rfl
theorem q1161 : (Jvm.Cond.static ({ cls := "TraceWarden", name := "numberOf", desc := "(LTraceWarden$State;)I" } : Jvm.MethodName)) ∈ lw_all := lw_g (lw_at lw_m5 137 rfl) rfl
theorem q1162 : (Jvm.Cond.code ({ cls := "TraceWarden", name := "numberOf", desc := "(LTraceWarden$State;)I" } : Jvm.MethodName) prog_1_method_14_code (1 : Nat) (Option.some Jvm.ClassFile.FieldType.int)) ∈ lw_all := lw_g (lw_at lw_m5 138 rfl) rfl
theorem q1186 : (Jvm.Cond.instanceMethod ({ cls := "TraceWarden", name := "output", desc := "(III)Z" } : Jvm.MethodName)) ∈ lw_all := lw_g (lw_at lw_m5 162 rfl) rfl
theorem q1187 : (Jvm.Cond.selects "TraceWarden" ({ cls := "TraceWarden", name := "output", desc := "(III)Z" } : Jvm.MethodName) ({ cls := "TraceWarden", name := "output", desc := "(III)Z" } : Jvm.MethodName)) ∈ lw_all := lw_g (lw_at lw_m5 163 rfl) rfl
theorem q1188 : (Jvm.Cond.code ({ cls := "TraceWarden", name := "output", desc := "(III)Z" } : Jvm.MethodName) prog_1_method_16_code (4 : Nat) (Option.some Jvm.ClassFile.FieldType.boolean)) ∈ lw_all := lw_g (lw_at lw_m5 164 rfl) rfl
theorem q1189 : (Jvm.Cond.classLink "TraceWarden" (197 : Nat) "java/lang/IndexOutOfBoundsException") ∈ lw_all := lw_g (lw_at lw_m5 165 rfl) rfl
theorem q1198 : (Jvm.Cond.methodLink "TraceWarden" (199 : Nat) ({ cls := "java/lang/IndexOutOfBoundsException", name := "<init>", desc := "()V" } : Jvm.MethodName)) ∈ lw_all := lw_g (lw_at lw_m5 174 rfl) rfl
theorem q1204 : (Jvm.Cond.methodLink "TraceWarden" (200 : Nat) ({ cls := "TraceWarden$Circuit", name := "value", desc := "(III)Z" } : Jvm.MethodName)) ∈ lw_all := lw_g (lw_at lw_m5 180 rfl) rfl
theorem q1212 : (Jvm.Cond.instanceMethod ({ cls := "TraceWarden", name := "begin", desc := "()Z" } : Jvm.MethodName)) ∈ lw_all := lw_g (lw_at lw_m5 188 rfl) rfl
theorem q1213 : (Jvm.Cond.selects "TraceWarden" ({ cls := "TraceWarden", name := "begin", desc := "()Z" } : Jvm.MethodName) ({ cls := "TraceWarden", name := "begin", desc := "()Z" } : Jvm.MethodName)) ∈ lw_all := lw_g (lw_at lw_m5 189 rfl) rfl
theorem q1214 : (Jvm.Cond.code ({ cls := "TraceWarden", name := "begin", desc := "()Z" } : Jvm.MethodName) prog_1_method_17_code (1 : Nat) (Option.some Jvm.ClassFile.FieldType.boolean)) ∈ lw_all := lw_g (lw_at lw_m5 190 rfl) rfl
theorem q1215 : (Jvm.Cond.methodLink "TraceWarden" (204 : Nat) ({ cls := "TraceWarden$Monitor", name := "first", desc := "()LTraceWarden$State;" } : Jvm.MethodName)) ∈ lw_all := lw_g (lw_at lw_m5 191 rfl) rfl
theorem q1223 : (Jvm.Cond.instanceMethod ({ cls := "TraceWarden", name := "step", desc := "(I)I" } : Jvm.MethodName)) ∈ lw_all := lw_g (lw_at lw_m5 199 rfl) rfl
theorem q1224 : (Jvm.Cond.selects "TraceWarden" ({ cls := "TraceWarden", name := "step", desc := "(I)I" } : Jvm.MethodName) ({ cls := "TraceWarden", name := "step", desc := "(I)I" } : Jvm.MethodName)) ∈ lw_all := lw_g (lw_at lw_m5 200 rfl) rfl
theorem q1225 : (Jvm.Cond.code ({ cls := "TraceWarden", name := "step", desc := "(I)I" } : Jvm.MethodName) prog_1_method_19_code (3 : Nat) (Option.some Jvm.ClassFile.FieldType.int)) ∈ lw_all := lw_g (lw_at lw_m5 201 rfl) rfl
theorem q1226 : (Jvm.Cond.methodLink "TraceWarden" (219 : Nat) ({ cls := "TraceWarden", name := "along", desc := "(LTraceWarden$State;II)LTraceWarden$State;" } : Jvm.MethodName)) ∈ lw_all := lw_g (lw_at lw_m5 202 rfl) rfl
theorem q1227 : (Jvm.Cond.privateMethod ({ cls := "TraceWarden", name := "along", desc := "(LTraceWarden$State;II)LTraceWarden$State;" } : Jvm.MethodName)) ∈ lw_tbl := lw_at lw_m5 203 rfl
theorem q1228 : (Jvm.Cond.instanceMethod ({ cls := "TraceWarden", name := "along", desc := "(LTraceWarden$State;II)LTraceWarden$State;" } : Jvm.MethodName)) ∈ lw_all := lw_g (lw_at lw_m5 204 rfl) rfl
theorem q1229 : (Jvm.Cond.code ({ cls := "TraceWarden", name := "along", desc := "(LTraceWarden$State;II)LTraceWarden$State;" } : Jvm.MethodName) prog_1_method_18_code (6 : Nat) (Option.some (Jvm.ClassFile.FieldType.object "TraceWarden$State"))) ∈ lw_all := lw_g (lw_at lw_m5 205 rfl) rfl
theorem q1234 : (Jvm.Cond.instanceMethod ({ cls := "TraceWarden", name := "loop", desc := "(I)Z" } : Jvm.MethodName)) ∈ lw_all := lw_g (lw_at lw_m5 210 rfl) rfl
theorem q1235 : (Jvm.Cond.selects "TraceWarden" ({ cls := "TraceWarden", name := "loop", desc := "(I)Z" } : Jvm.MethodName) ({ cls := "TraceWarden", name := "loop", desc := "(I)Z" } : Jvm.MethodName)) ∈ lw_all := lw_g (lw_at lw_m5 211 rfl) rfl
theorem q1236 : (Jvm.Cond.code ({ cls := "TraceWarden", name := "loop", desc := "(I)Z" } : Jvm.MethodName) prog_1_method_22_code (4 : Nat) (Option.some Jvm.ClassFile.FieldType.boolean)) ∈ lw_all := lw_g (lw_at lw_m5 212 rfl) rfl
theorem q1666 : (Jvm.Cond.castable "TraceWarden" "java/lang/Object") ∈ lw_tbl := lw_at lw_m7 162 rfl
theorem in_X1 : ∀ w ∈ wsX10, w ∈ lw_all := lw_in wsX10 [335, 337, 339, 341, 343, 345, 347, 349, 351, 353, 355, 357, 359, 361, 363, 365, 367, 369, 371, 373] (by decide +kernel) (by decide +kernel)

/-! TraceWarden$Reader -/
def RX2 : String := "TraceWarden$Reader"
def TX2 : u_T := fun k => match k with
  | 0 => ("TraceWarden$Reader", "text", "[C", true)
  | 1 => ("TraceWarden$Reader", "length", "I", false)
  | 2 => ("TraceWarden$Reader", "at", "I", false)
  | 3 => ("TraceWarden$Reader", "parts", "Ljava/util/ArrayList;", true)
  | _ => ("TraceWarden$Reader", "used", "I", false)
def tyX2 : Nat → FieldType := fun k => match k with
  | 0 => .array .char
  | 1 => .int
  | 2 => .int
  | 3 => .object "java/util/ArrayList"
  | _ => .int
abbrev wsX20 : List Cond := u_ws RX2 TX2 5
theorem nmX2 : ∀ a, a < 5 → ∀ b, b < 5 → a ≠ b → (TX2 a).2.1 ≠ (TX2 b).2.1 := by decide +kernel
theorem tyX2_ok : ∀ k, k < 5 → parseFieldDescriptor (TX2 k).2.2.1 = some (tyX2 k) := by decide +kernel
abbrev cX2_init : ByteArray := prog_8_method_1_code
def yX2_init : MethodName := ⟨RX2, "<init>", "()V"⟩
abbrev cX2_whole : ByteArray := prog_8_method_7_code
def yX2_whole : MethodName := ⟨RX2, "whole", "()LTraceWarden$Part;"⟩
abbrev cX2_property : ByteArray := prog_8_method_9_code
def yX2_property : MethodName := ⟨RX2, "property", "(LTraceWarden$Reader;I)LTraceWarden$Part;"⟩
abbrev cX2_need : ByteArray := prog_8_method_2_code
def yX2_need : MethodName := ⟨RX2, "need", "(Z)V"⟩
abbrev cX2_here : ByteArray := prog_8_method_3_code
def yX2_here : MethodName := ⟨RX2, "here", "()C"⟩
abbrev cX2_fresh : ByteArray := prog_8_method_6_code
def yX2_fresh : MethodName := ⟨RX2, "fresh", "()LTraceWarden$Part;"⟩
abbrev cX2_sequence : ByteArray := prog_8_method_11_code
def yX2_sequence : MethodName := ⟨RX2, "sequence", "(LTraceWarden$Reader;I)LTraceWarden$Part;"⟩
abbrev cX2_term : ByteArray := prog_8_method_12_code
def yX2_term : MethodName := ⟨RX2, "term", "(LTraceWarden$Reader;I)LTraceWarden$Part;"⟩
abbrev cX2_takes : ByteArray := prog_8_method_4_code
def yX2_takes : MethodName := ⟨RX2, "takes", "(C)Z"⟩
abbrev cX2_take : ByteArray := prog_8_method_5_code
def yX2_take : MethodName := ⟨RX2, "take", "(C)V"⟩
abbrev cX2_bool : ByteArray := prog_8_method_10_code
def yX2_bool : MethodName := ⟨RX2, "bool", "(LTraceWarden$Reader;IZ)I"⟩
abbrev cX2_truthOf : ByteArray := prog_8_method_8_code
def yX2_truthOf : MethodName := ⟨RX2, "truthOf", "(C)I"⟩
abbrev cX2_digit : ByteArray := prog_8_method_13_code
def yX2_digit : MethodName := ⟨RX2, "digit", "(C)I"⟩
theorem q66 : (Jvm.Cond.initialized "TraceWarden$Reader") ∈ lw_all := lw_g (lw_at lw_m1 2 rfl) rfl
theorem q110 : (Jvm.Cond.instantiable "TraceWarden$Reader" (5 : Nat)) ∈ lw_all := lw_g (lw_at lw_m1 46 rfl) rfl
theorem q112 : (Jvm.Cond.instanceMethod ({ cls := "TraceWarden$Reader", name := "<init>", desc := "()V" } : Jvm.MethodName)) ∈ lw_all := lw_g (lw_at lw_m1 48 rfl) rfl
theorem q113 : (Jvm.Cond.code ({ cls := "TraceWarden$Reader", name := "<init>", desc := "()V" } : Jvm.MethodName) prog_8_method_1_code (1 : Nat) (Option.none : Option Jvm.ClassFile.FieldType)) ∈ lw_all := lw_g (lw_at lw_m1 49 rfl) rfl
theorem q114 : (Jvm.Cond.methodLink "TraceWarden$Reader" (3 : Nat) ({ cls := "java/lang/Object", name := "<init>", desc := "()V" } : Jvm.MethodName)) ∈ lw_all := lw_g (lw_at lw_m1 50 rfl) rfl
theorem q115 : (Jvm.Cond.classLink "TraceWarden$Reader" (15 : Nat) "java/util/ArrayList") ∈ lw_all := lw_g (lw_at lw_m1 51 rfl) rfl
theorem q117 : (Jvm.Cond.methodLink "TraceWarden$Reader" (17 : Nat) ({ cls := "java/util/ArrayList", name := "<init>", desc := "()V" } : Jvm.MethodName)) ∈ lw_all := lw_g (lw_at lw_m1 53 rfl) rfl
theorem q142 : (Jvm.Cond.fieldLink "TraceWarden$Reader" (9 : Nat) "TraceWarden$Reader" "text" "[C") ∈ lw_all := lw_g (lw_at lw_m1 78 rfl) rfl
theorem q145 : (Jvm.Cond.fieldLink "TraceWarden$Reader" (29 : Nat) "TraceWarden$Reader" "length" "I") ∈ lw_all := lw_g (lw_at lw_m1 81 rfl) rfl
theorem q146 : (Jvm.Cond.fieldLink "TraceWarden$Reader" (25 : Nat) "TraceWarden$Reader" "at" "I") ∈ lw_all := lw_g (lw_at lw_m1 82 rfl) rfl
theorem q148 : (Jvm.Cond.fieldLink "TraceWarden$Reader" (18 : Nat) "TraceWarden$Reader" "parts" "Ljava/util/ArrayList;") ∈ lw_all := lw_g (lw_at lw_m1 84 rfl) rfl
theorem q149 : (Jvm.Cond.fieldLink "TraceWarden$Reader" (44 : Nat) "TraceWarden$Reader" "used" "I") ∈ lw_all := lw_g (lw_at lw_m1 85 rfl) rfl
theorem q150 : (Jvm.Cond.laysFinal "TraceWarden$Reader" "TraceWarden$Reader" "text" "[C") ∈ lw_all := lw_g (lw_at lw_m1 86 rfl) rfl
theorem q151 : (Jvm.Cond.soleField "TraceWarden$Reader" "text") ∈ lw_all := lw_g (lw_at lw_m1 87 rfl) rfl
theorem q152 : (Jvm.Cond.lays "TraceWarden$Reader" "TraceWarden$Reader" "length" "I") ∈ lw_all := lw_g (lw_at lw_m1 88 rfl) rfl
theorem q153 : (Jvm.Cond.soleField "TraceWarden$Reader" "length") ∈ lw_all := lw_g (lw_at lw_m1 89 rfl) rfl
theorem q154 : (Jvm.Cond.lays "TraceWarden$Reader" "TraceWarden$Reader" "at" "I") ∈ lw_all := lw_g (lw_at lw_m1 90 rfl) rfl
theorem q155 : (Jvm.Cond.soleField "TraceWarden$Reader" "at") ∈ lw_all := lw_g (lw_at lw_m1 91 rfl) rfl
theorem q156 : (Jvm.Cond.laysFinal "TraceWarden$Reader" "TraceWarden$Reader" "parts" "Ljava/util/ArrayList;") ∈ lw_all := lw_g (lw_at lw_m1 92 rfl) rfl
theorem q157 : (Jvm.Cond.soleField "TraceWarden$Reader" "parts") ∈ lw_all := lw_g (lw_at lw_m1 93 rfl) rfl
theorem q158 : (Jvm.Cond.lays "TraceWarden$Reader" "TraceWarden$Reader" "used" "I") ∈ lw_all := lw_g (lw_at lw_m1 94 rfl) rfl
theorem q159 : (Jvm.Cond.soleField "TraceWarden$Reader" "used") ∈ lw_all := lw_g (lw_at lw_m1 95 rfl) rfl
theorem q160 : (Jvm.Cond.superclass "TraceWarden$Reader" "java/lang/Object") ∈ lw_all := lw_g (lw_at lw_m1 96 rfl) rfl
theorem q764 : (Jvm.Cond.instanceMethod ({ cls := "TraceWarden$Reader", name := "whole", desc := "()LTraceWarden$Part;" } : Jvm.MethodName)) ∈ lw_all := lw_g (lw_at lw_m3 220 rfl) rfl
theorem q765 : (Jvm.Cond.selects "TraceWarden$Reader" ({ cls := "TraceWarden$Reader", name := "whole", desc := "()LTraceWarden$Part;" } : Jvm.MethodName) ({ cls := "TraceWarden$Reader", name := "whole", desc := "()LTraceWarden$Part;" } : Jvm.MethodName)) ∈ lw_all := lw_g (lw_at lw_m3 221 rfl) rfl
theorem q766 : (Jvm.Cond.code ({ cls := "TraceWarden$Reader", name := "whole", desc := "()LTraceWarden$Part;" } : Jvm.MethodName) prog_8_method_7_code (2 : Nat) (Option.some (Jvm.ClassFile.FieldType.object "TraceWarden$Part"))) ∈ lw_all := lw_g (lw_at lw_m3 222 rfl) rfl
theorem q767 : (Jvm.Cond.methodLink "TraceWarden$Reader" (62 : Nat) ({ cls := "TraceWarden$Reader", name := "property", desc := "(LTraceWarden$Reader;I)LTraceWarden$Part;" } : Jvm.MethodName)) ∈ lw_all := lw_g (lw_at lw_m3 223 rfl) rfl
theorem q768 : (Jvm.Cond.static ({ cls := "TraceWarden$Reader", name := "property", desc := "(LTraceWarden$Reader;I)LTraceWarden$Part;" } : Jvm.MethodName)) ∈ lw_all := lw_g (lw_at lw_m3 224 rfl) rfl
theorem q769 : (Jvm.Cond.code ({ cls := "TraceWarden$Reader", name := "property", desc := "(LTraceWarden$Reader;I)LTraceWarden$Part;" } : Jvm.MethodName) prog_8_method_9_code (6 : Nat) (Option.some (Jvm.ClassFile.FieldType.object "TraceWarden$Part"))) ∈ lw_all := lw_g (lw_at lw_m3 225 rfl) rfl
theorem q770 : (Jvm.Cond.methodLink "TraceWarden$Reader" (40 : Nat) ({ cls := "TraceWarden$Reader", name := "need", desc := "(Z)V" } : Jvm.MethodName)) ∈ lw_all := lw_g (lw_at lw_m3 226 rfl) rfl
theorem q771 : (Jvm.Cond.static ({ cls := "TraceWarden$Reader", name := "need", desc := "(Z)V" } : Jvm.MethodName)) ∈ lw_all := lw_g (lw_at lw_m3 227 rfl) rfl
theorem q772 : (Jvm.Cond.code ({ cls := "TraceWarden$Reader", name := "need", desc := "(Z)V" } : Jvm.MethodName) prog_8_method_2_code (1 : Nat) (Option.none : Option Jvm.ClassFile.FieldType)) ∈ lw_all := lw_g (lw_at lw_m3 228 rfl) rfl
theorem q773 : (Jvm.Cond.classLink "TraceWarden$Reader" (22 : Nat) "java/lang/IllegalArgumentException") ∈ lw_all := lw_g (lw_at lw_m3 229 rfl) rfl
theorem q774 : (Jvm.Cond.methodLink "TraceWarden$Reader" (24 : Nat) ({ cls := "java/lang/IllegalArgumentException", name := "<init>", desc := "()V" } : Jvm.MethodName)) ∈ lw_all := lw_g (lw_at lw_m3 230 rfl) rfl
theorem q784 : (Jvm.Cond.methodLink "TraceWarden$Reader" (32 : Nat) ({ cls := "TraceWarden$Reader", name := "here", desc := "()C" } : Jvm.MethodName)) ∈ lw_all := lw_g (lw_at lw_m4 0 rfl) rfl
theorem q785 : (Jvm.Cond.privateMethod ({ cls := "TraceWarden$Reader", name := "here", desc := "()C" } : Jvm.MethodName)) ∈ lw_tbl := lw_at lw_m4 1 rfl
theorem q786 : (Jvm.Cond.instanceMethod ({ cls := "TraceWarden$Reader", name := "here", desc := "()C" } : Jvm.MethodName)) ∈ lw_all := lw_g (lw_at lw_m4 2 rfl) rfl
theorem q787 : (Jvm.Cond.code ({ cls := "TraceWarden$Reader", name := "here", desc := "()C" } : Jvm.MethodName) prog_8_method_3_code (1 : Nat) (Option.some Jvm.ClassFile.FieldType.char)) ∈ lw_all := lw_g (lw_at lw_m4 3 rfl) rfl
theorem q788 : (Jvm.Cond.methodLink "TraceWarden$Reader" (66 : Nat) ({ cls := "TraceWarden$Reader", name := "fresh", desc := "()LTraceWarden$Part;" } : Jvm.MethodName)) ∈ lw_all := lw_g (lw_at lw_m4 4 rfl) rfl
theorem q789 : (Jvm.Cond.privateMethod ({ cls := "TraceWarden$Reader", name := "fresh", desc := "()LTraceWarden$Part;" } : Jvm.MethodName)) ∈ lw_tbl := lw_at lw_m4 5 rfl
theorem q790 : (Jvm.Cond.instanceMethod ({ cls := "TraceWarden$Reader", name := "fresh", desc := "()LTraceWarden$Part;" } : Jvm.MethodName)) ∈ lw_all := lw_g (lw_at lw_m4 6 rfl) rfl
theorem q791 : (Jvm.Cond.code ({ cls := "TraceWarden$Reader", name := "fresh", desc := "()LTraceWarden$Part;" } : Jvm.MethodName) prog_8_method_6_code (1 : Nat) (Option.some (Jvm.ClassFile.FieldType.object "TraceWarden$Part"))) ∈ lw_all := lw_g (lw_at lw_m4 7 rfl) rfl
theorem q792 : (Jvm.Cond.methodLink "TraceWarden$Reader" (47 : Nat) ({ cls := "java/util/ArrayList", name := "size", desc := "()I" } : Jvm.MethodName)) ∈ lw_all := lw_g (lw_at lw_m4 8 rfl) rfl
theorem q796 : (Jvm.Cond.classLink "TraceWarden$Reader" (51 : Nat) "TraceWarden$Part") ∈ lw_all := lw_g (lw_at lw_m4 12 rfl) rfl
theorem q798 : (Jvm.Cond.methodLinkNest "TraceWarden$Reader" (53 : Nat) ({ cls := "TraceWarden$Part", name := "<init>", desc := "()V" } : Jvm.MethodName) "TraceWarden") ∈ lw_tbl := lw_at lw_m4 14 rfl
theorem q810 : (Jvm.Cond.fieldLinkNest "TraceWarden$Reader" (128 : Nat) "TraceWarden$Part" "truth" "I" "TraceWarden") ∈ lw_tbl := lw_at lw_m4 26 rfl
theorem q812 : (Jvm.Cond.fieldLinkNest "TraceWarden$Reader" (140 : Nat) "TraceWarden$Part" "least" "I" "TraceWarden") ∈ lw_tbl := lw_at lw_m4 28 rfl
theorem q814 : (Jvm.Cond.fieldLinkNest "TraceWarden$Reader" (143 : Nat) "TraceWarden$Part" "most" "I" "TraceWarden") ∈ lw_tbl := lw_at lw_m4 30 rfl
theorem q837 : (Jvm.Cond.methodLink "TraceWarden$Reader" (54 : Nat) ({ cls := "java/util/ArrayList", name := "add", desc := "(Ljava/lang/Object;)Z" } : Jvm.MethodName)) ∈ lw_all := lw_g (lw_at lw_m4 53 rfl) rfl
theorem q867 : (Jvm.Cond.selects "TraceWarden$Reader" ({ cls := "java/lang/Object", name := "getClass", desc := "()Ljava/lang/Class;" } : Jvm.MethodName) ({ cls := "java/lang/Object", name := "getClass", desc := "()Ljava/lang/Class;" } : Jvm.MethodName)) ∈ lw_all := lw_g (lw_at lw_m4 83 rfl) rfl
theorem q889 : (Jvm.Cond.methodLink "TraceWarden$Reader" (58 : Nat) ({ cls := "java/util/ArrayList", name := "get", desc := "(I)Ljava/lang/Object;" } : Jvm.MethodName)) ∈ lw_all := lw_g (lw_at lw_m4 105 rfl) rfl
theorem q901 : (Jvm.Cond.fieldLink "TraceWarden$Reader" (70 : Nat) "TraceWarden$Kind" "ALWAYS" "LTraceWarden$Kind;") ∈ lw_all := lw_g (lw_at lw_m4 117 rfl) rfl
theorem q903 : (Jvm.Cond.fieldLink "TraceWarden$Reader" (76 : Nat) "TraceWarden$Kind" "NEXT" "LTraceWarden$Kind;") ∈ lw_all := lw_g (lw_at lw_m4 119 rfl) rfl
theorem q905 : (Jvm.Cond.methodLink "TraceWarden$Reader" (79 : Nat) ({ cls := "TraceWarden$Part", name := "be", desc := "(LTraceWarden$Kind;LTraceWarden$Part;LTraceWarden$Part;)LTraceWarden$Part;" } : Jvm.MethodName)) ∈ lw_all := lw_g (lw_at lw_m4 121 rfl) rfl
theorem q909 : (Jvm.Cond.methodLink "TraceWarden$Reader" (83 : Nat) ({ cls := "TraceWarden$Reader", name := "sequence", desc := "(LTraceWarden$Reader;I)LTraceWarden$Part;" } : Jvm.MethodName)) ∈ lw_all := lw_g (lw_at lw_m4 125 rfl) rfl
theorem q910 : (Jvm.Cond.static ({ cls := "TraceWarden$Reader", name := "sequence", desc := "(LTraceWarden$Reader;I)LTraceWarden$Part;" } : Jvm.MethodName)) ∈ lw_all := lw_g (lw_at lw_m4 126 rfl) rfl
theorem q911 : (Jvm.Cond.code ({ cls := "TraceWarden$Reader", name := "sequence", desc := "(LTraceWarden$Reader;I)LTraceWarden$Part;" } : Jvm.MethodName) prog_8_method_11_code (3 : Nat) (Option.some (Jvm.ClassFile.FieldType.object "TraceWarden$Part"))) ∈ lw_all := lw_g (lw_at lw_m4 127 rfl) rfl
theorem q912 : (Jvm.Cond.methodLink "TraceWarden$Reader" (116 : Nat) ({ cls := "TraceWarden$Reader", name := "term", desc := "(LTraceWarden$Reader;I)LTraceWarden$Part;" } : Jvm.MethodName)) ∈ lw_all := lw_g (lw_at lw_m4 128 rfl) rfl
theorem q913 : (Jvm.Cond.static ({ cls := "TraceWarden$Reader", name := "term", desc := "(LTraceWarden$Reader;I)LTraceWarden$Part;" } : Jvm.MethodName)) ∈ lw_all := lw_g (lw_at lw_m4 129 rfl) rfl
theorem q914 : (Jvm.Cond.code ({ cls := "TraceWarden$Reader", name := "term", desc := "(LTraceWarden$Reader;I)LTraceWarden$Part;" } : Jvm.MethodName) prog_8_method_12_code (4 : Nat) (Option.some (Jvm.ClassFile.FieldType.object "TraceWarden$Part"))) ∈ lw_all := lw_g (lw_at lw_m4 130 rfl) rfl
theorem q915 : (Jvm.Cond.methodLink "TraceWarden$Reader" (36 : Nat) ({ cls := "TraceWarden$Reader", name := "takes", desc := "(C)Z" } : Jvm.MethodName)) ∈ lw_all := lw_g (lw_at lw_m4 131 rfl) rfl
theorem q916 : (Jvm.Cond.privateMethod ({ cls := "TraceWarden$Reader", name := "takes", desc := "(C)Z" } : Jvm.MethodName)) ∈ lw_tbl := lw_at lw_m4 132 rfl
theorem q917 : (Jvm.Cond.instanceMethod ({ cls := "TraceWarden$Reader", name := "takes", desc := "(C)Z" } : Jvm.MethodName)) ∈ lw_all := lw_g (lw_at lw_m4 133 rfl) rfl
theorem q918 : (Jvm.Cond.code ({ cls := "TraceWarden$Reader", name := "takes", desc := "(C)Z" } : Jvm.MethodName) prog_8_method_4_code (2 : Nat) (Option.some Jvm.ClassFile.FieldType.boolean)) ∈ lw_all := lw_g (lw_at lw_m4 134 rfl) rfl
theorem q919 : (Jvm.Cond.fieldLink "TraceWarden$Reader" (122 : Nat) "TraceWarden$Kind" "CHOICE" "LTraceWarden$Kind;") ∈ lw_all := lw_g (lw_at lw_m4 135 rfl) rfl
theorem q921 : (Jvm.Cond.methodLink "TraceWarden$Reader" (86 : Nat) ({ cls := "TraceWarden$Reader", name := "take", desc := "(C)V" } : Jvm.MethodName)) ∈ lw_all := lw_g (lw_at lw_m4 137 rfl) rfl
theorem q922 : (Jvm.Cond.privateMethod ({ cls := "TraceWarden$Reader", name := "take", desc := "(C)V" } : Jvm.MethodName)) ∈ lw_tbl := lw_at lw_m4 138 rfl
theorem q923 : (Jvm.Cond.instanceMethod ({ cls := "TraceWarden$Reader", name := "take", desc := "(C)V" } : Jvm.MethodName)) ∈ lw_all := lw_g (lw_at lw_m4 139 rfl) rfl
theorem q924 : (Jvm.Cond.code ({ cls := "TraceWarden$Reader", name := "take", desc := "(C)V" } : Jvm.MethodName) prog_8_method_5_code (2 : Nat) (Option.none : Option Jvm.ClassFile.FieldType)) ∈ lw_all := lw_g (lw_at lw_m4 140 rfl) rfl
theorem q925 : (Jvm.Cond.methodLink "TraceWarden$Reader" (105 : Nat) ({ cls := "TraceWarden$Reader", name := "bool", desc := "(LTraceWarden$Reader;IZ)I" } : Jvm.MethodName)) ∈ lw_all := lw_g (lw_at lw_m4 141 rfl) rfl
theorem q926 : (Jvm.Cond.static ({ cls := "TraceWarden$Reader", name := "bool", desc := "(LTraceWarden$Reader;IZ)I" } : Jvm.MethodName)) ∈ lw_all := lw_g (lw_at lw_m4 142 rfl) rfl
theorem q927 : (Jvm.Cond.code ({ cls := "TraceWarden$Reader", name := "bool", desc := "(LTraceWarden$Reader;IZ)I" } : Jvm.MethodName) prog_8_method_10_code (7 : Nat) (Option.some Jvm.ClassFile.FieldType.int)) ∈ lw_all := lw_g (lw_at lw_m4 143 rfl) rfl
theorem q928 : (Jvm.Cond.methodLink "TraceWarden$Reader" (112 : Nat) ({ cls := "TraceWarden$Reader", name := "truthOf", desc := "(C)I" } : Jvm.MethodName)) ∈ lw_all := lw_g (lw_at lw_m4 144 rfl) rfl
theorem q929 : (Jvm.Cond.static ({ cls := "TraceWarden$Reader", name := "truthOf", desc := "(C)I" } : Jvm.MethodName)) ∈ lw_all := lw_g (lw_at lw_m4 145 rfl) rfl
theorem q930 : (Jvm.Cond.code ({ cls := "TraceWarden$Reader", name := "truthOf", desc := "(C)I" } : Jvm.MethodName) prog_8_method_8_code (1 : Nat) (Option.some Jvm.ClassFile.FieldType.int)) ∈ lw_all := lw_g (lw_at lw_m4 146 rfl) rfl
theorem q931 : (Jvm.Cond.fieldLink "TraceWarden$Reader" (125 : Nat) "TraceWarden$Kind" "PLACE" "LTraceWarden$Kind;") ∈ lw_all := lw_g (lw_at lw_m4 147 rfl) rfl
theorem q933 : (Jvm.Cond.fieldLink "TraceWarden$Reader" (131 : Nat) "TraceWarden$Kind" "MORE" "LTraceWarden$Kind;") ∈ lw_all := lw_g (lw_at lw_m4 149 rfl) rfl
theorem q935 : (Jvm.Cond.fieldLink "TraceWarden$Reader" (134 : Nat) "TraceWarden$Kind" "TIMES" "LTraceWarden$Kind;") ∈ lw_all := lw_g (lw_at lw_m4 151 rfl) rfl
theorem q937 : (Jvm.Cond.methodLink "TraceWarden$Reader" (137 : Nat) ({ cls := "TraceWarden$Reader", name := "digit", desc := "(C)I" } : Jvm.MethodName)) ∈ lw_all := lw_g (lw_at lw_m4 153 rfl) rfl
theorem q938 : (Jvm.Cond.privateMethod ({ cls := "TraceWarden$Reader", name := "digit", desc := "(C)I" } : Jvm.MethodName)) ∈ lw_tbl := lw_at lw_m4 154 rfl
theorem q939 : (Jvm.Cond.instanceMethod ({ cls := "TraceWarden$Reader", name := "digit", desc := "(C)I" } : Jvm.MethodName)) ∈ lw_all := lw_g (lw_at lw_m4 155 rfl) rfl
theorem q940 : (Jvm.Cond.code ({ cls := "TraceWarden$Reader", name := "digit", desc := "(C)I" } : Jvm.MethodName) prog_8_method_13_code (3 : Nat) (Option.some Jvm.ClassFile.FieldType.int)) ∈ lw_all := lw_g (lw_at lw_m4 156 rfl) rfl
theorem q941 : (Jvm.Cond.fieldLink "TraceWarden$Reader" (119 : Nat) "TraceWarden$Kind" "THEN" "LTraceWarden$Kind;") ∈ lw_all := lw_g (lw_at lw_m4 157 rfl) rfl
theorem q943 : (Jvm.Cond.fieldLink "TraceWarden$Reader" (90 : Nat) "TraceWarden$Kind" "OVERLAP" "LTraceWarden$Kind;") ∈ lw_all := lw_g (lw_at lw_m4 159 rfl) rfl
theorem q945 : (Jvm.Cond.fieldLink "TraceWarden$Reader" (93 : Nat) "TraceWarden$Kind" "BEHIND" "LTraceWarden$Kind;") ∈ lw_all := lw_g (lw_at lw_m4 161 rfl) rfl
theorem q947 : (Jvm.Cond.fieldLink "TraceWarden$Reader" (96 : Nat) "TraceWarden$Kind" "BOTH" "LTraceWarden$Kind;") ∈ lw_all := lw_g (lw_at lw_m4 163 rfl) rfl
theorem q949 : (Jvm.Cond.fieldLink "TraceWarden$Reader" (99 : Nat) "TraceWarden$Kind" "EITHER" "LTraceWarden$Kind;") ∈ lw_all := lw_g (lw_at lw_m4 165 rfl) rfl
theorem q951 : (Jvm.Cond.fieldLink "TraceWarden$Reader" (102 : Nat) "TraceWarden$Kind" "UNTIL" "LTraceWarden$Kind;") ∈ lw_all := lw_g (lw_at lw_m4 167 rfl) rfl
theorem q953 : (Jvm.Cond.methodLink "TraceWarden$Reader" (109 : Nat) ({ cls := "TraceWarden$Part", name := "be", desc := "(I)LTraceWarden$Part;" } : Jvm.MethodName)) ∈ lw_all := lw_g (lw_at lw_m4 169 rfl) rfl
theorem q1667 : (Jvm.Cond.castable "TraceWarden$Reader" "java/lang/Object") ∈ lw_tbl := lw_at lw_m7 163 rfl
theorem in_X2 : ∀ w ∈ wsX20, w ∈ lw_all := lw_in wsX20 [150, 152, 154, 156, 158] (by decide +kernel) (by decide +kernel)

/-! java/util/AbstractCollection -/
def RJ0 : String := "java/util/AbstractCollection"
abbrev cJ0_init : ByteArray := prog_33_method_1_code
def yJ0_init : MethodName := ⟨RJ0, "<init>", "()V"⟩
theorem q67 : (Jvm.Cond.initialized "java/util/AbstractCollection") ∈ lw_all := lw_g (lw_at lw_m1 3 rfl) rfl
theorem q124 : (Jvm.Cond.instanceMethod ({ cls := "java/util/AbstractCollection", name := "<init>", desc := "()V" } : Jvm.MethodName)) ∈ lw_all := lw_g (lw_at lw_m1 60 rfl) rfl
theorem q125 : (Jvm.Cond.code ({ cls := "java/util/AbstractCollection", name := "<init>", desc := "()V" } : Jvm.MethodName) prog_33_method_1_code (1 : Nat) (Option.none : Option Jvm.ClassFile.FieldType)) ∈ lw_all := lw_g (lw_at lw_m1 61 rfl) rfl
theorem q126 : (Jvm.Cond.methodLink "java/util/AbstractCollection" (1 : Nat) ({ cls := "java/lang/Object", name := "<init>", desc := "()V" } : Jvm.MethodName)) ∈ lw_all := lw_g (lw_at lw_m1 62 rfl) rfl

/-! java/util/AbstractList -/
def RJ1 : String := "java/util/AbstractList"
abbrev cJ1_init : ByteArray := prog_34_method_1_code
def yJ1_init : MethodName := ⟨RJ1, "<init>", "()V"⟩
theorem q68 : (Jvm.Cond.initialized "java/util/AbstractList") ∈ lw_all := lw_g (lw_at lw_m1 4 rfl) rfl
theorem q121 : (Jvm.Cond.instanceMethod ({ cls := "java/util/AbstractList", name := "<init>", desc := "()V" } : Jvm.MethodName)) ∈ lw_all := lw_g (lw_at lw_m1 57 rfl) rfl
theorem q122 : (Jvm.Cond.code ({ cls := "java/util/AbstractList", name := "<init>", desc := "()V" } : Jvm.MethodName) prog_34_method_1_code (1 : Nat) (Option.none : Option Jvm.ClassFile.FieldType)) ∈ lw_all := lw_g (lw_at lw_m1 58 rfl) rfl
theorem q123 : (Jvm.Cond.methodLink "java/util/AbstractList" (1 : Nat) ({ cls := "java/util/AbstractCollection", name := "<init>", desc := "()V" } : Jvm.MethodName)) ∈ lw_all := lw_g (lw_at lw_m1 59 rfl) rfl
theorem q131 : (Jvm.Cond.fieldLink "java/util/AbstractList" (7 : Nat) "java/util/AbstractList" "modCount" "I") ∈ lw_all := lw_g (lw_at lw_m1 67 rfl) rfl
theorem q139 : (Jvm.Cond.soleField "java/util/AbstractList" "modCount") ∈ lw_all := lw_g (lw_at lw_m1 75 rfl) rfl

/-! java/util/ArrayList -/
def RJ2 : String := "java/util/ArrayList"
def TJ2 : u_T := fun k => match k with
  | 0 => ("java/util/AbstractList", "modCount", "I", false)
  | 1 => ("java/util/ArrayList", "elementData", "[Ljava/lang/Object;", false)
  | _ => ("java/util/ArrayList", "size", "I", false)
def tyJ2 : Nat → FieldType := fun k => match k with
  | 0 => .int
  | 1 => .array (.object "java/lang/Object")
  | _ => .int
abbrev wsJ20 : List Cond := u_ws RJ2 TJ2 3
theorem nmJ2 : ∀ a, a < 3 → ∀ b, b < 3 → a ≠ b → (TJ2 a).2.1 ≠ (TJ2 b).2.1 := by decide +kernel
theorem tyJ2_ok : ∀ k, k < 3 → parseFieldDescriptor (TJ2 k).2.2.1 = some (tyJ2 k) := by decide +kernel
abbrev cJ2_init : ByteArray := prog_35_method_2_code
def yJ2_init : MethodName := ⟨RJ2, "<init>", "()V"⟩
abbrev cJ2_size : ByteArray := prog_35_method_8_code
def yJ2_size : MethodName := ⟨RJ2, "size", "()I"⟩
abbrev cJ2_add : ByteArray := prog_35_method_25_code
def yJ2_add : MethodName := ⟨RJ2, "add", "(Ljava/lang/Object;)Z"⟩
abbrev cJ2_add_2 : ByteArray := prog_35_method_24_code
def yJ2_add_2 : MethodName := ⟨RJ2, "add", "(Ljava/lang/Object;[Ljava/lang/Object;I)V"⟩
abbrev cJ2_grow : ByteArray := prog_35_method_7_code
def yJ2_grow : MethodName := ⟨RJ2, "grow", "()[Ljava/lang/Object;"⟩
abbrev cJ2_grow_2 : ByteArray := prog_35_method_6_code
def yJ2_grow_2 : MethodName := ⟨RJ2, "grow", "(I)[Ljava/lang/Object;"⟩
abbrev cJ2_get : ByteArray := prog_35_method_20_code
def yJ2_get : MethodName := ⟨RJ2, "get", "(I)Ljava/lang/Object;"⟩
abbrev cJ2_elementData : ByteArray := prog_35_method_18_code
def yJ2_elementData : MethodName := ⟨RJ2, "elementData", "(I)Ljava/lang/Object;"⟩
theorem q69 : (Jvm.Cond.initialized "java/util/ArrayList") ∈ lw_all := lw_g (lw_at lw_m1 5 rfl) rfl
theorem q116 : (Jvm.Cond.instantiable "java/util/ArrayList" (3 : Nat)) ∈ lw_all := lw_g (lw_at lw_m1 52 rfl) rfl
theorem q118 : (Jvm.Cond.instanceMethod ({ cls := "java/util/ArrayList", name := "<init>", desc := "()V" } : Jvm.MethodName)) ∈ lw_all := lw_g (lw_at lw_m1 54 rfl) rfl
theorem q119 : (Jvm.Cond.code ({ cls := "java/util/ArrayList", name := "<init>", desc := "()V" } : Jvm.MethodName) prog_35_method_2_code (1 : Nat) (Option.none : Option Jvm.ClassFile.FieldType)) ∈ lw_all := lw_g (lw_at lw_m1 55 rfl) rfl
theorem q120 : (Jvm.Cond.methodLink "java/util/ArrayList" (1 : Nat) ({ cls := "java/util/AbstractList", name := "<init>", desc := "()V" } : Jvm.MethodName)) ∈ lw_all := lw_g (lw_at lw_m1 56 rfl) rfl
theorem q127 : (Jvm.Cond.fieldLink "java/util/ArrayList" (39 : Nat) "java/util/ArrayList" "DEFAULTCAPACITY_EMPTY_ELEMENTDATA" "[Ljava/lang/Object;") ∈ lw_all := lw_g (lw_at lw_m1 63 rfl) rfl
theorem q128 : (Jvm.Cond.laysStatic "java/util/ArrayList" "DEFAULTCAPACITY_EMPTY_ELEMENTDATA" "[Ljava/lang/Object;") ∈ lw_tbl := lw_at lw_m1 64 rfl
theorem q129 : (Jvm.Cond.fieldLink "java/util/ArrayList" (9 : Nat) "java/util/ArrayList" "elementData" "[Ljava/lang/Object;") ∈ lw_all := lw_g (lw_at lw_m1 65 rfl) rfl
theorem q130 : (Jvm.Cond.fieldLink "java/util/ArrayList" (48 : Nat) "java/util/ArrayList" "size" "I") ∈ lw_all := lw_g (lw_at lw_m1 66 rfl) rfl
theorem q132 : (Jvm.Cond.fieldLink "java/util/ArrayList" (63 : Nat) "java/util/ArrayList" "modCount" "I") ∈ lw_all := lw_g (lw_at lw_m1 68 rfl) rfl
theorem q133 : (Jvm.Cond.sameField "java/util/ArrayList" "java/util/AbstractList" "modCount" "I") ∈ lw_all := lw_g (lw_at lw_m1 69 rfl) rfl
theorem q134 : (Jvm.Cond.lays "java/util/ArrayList" "java/util/ArrayList" "elementData" "[Ljava/lang/Object;") ∈ lw_all := lw_g (lw_at lw_m1 70 rfl) rfl
theorem q135 : (Jvm.Cond.soleField "java/util/ArrayList" "elementData") ∈ lw_all := lw_g (lw_at lw_m1 71 rfl) rfl
theorem q136 : (Jvm.Cond.lays "java/util/ArrayList" "java/util/ArrayList" "size" "I") ∈ lw_all := lw_g (lw_at lw_m1 72 rfl) rfl
theorem q137 : (Jvm.Cond.soleField "java/util/ArrayList" "size") ∈ lw_all := lw_g (lw_at lw_m1 73 rfl) rfl
theorem q138 : (Jvm.Cond.lays "java/util/ArrayList" "java/util/AbstractList" "modCount" "I") ∈ lw_all := lw_g (lw_at lw_m1 74 rfl) rfl
theorem q140 : (Jvm.Cond.superclass "java/util/ArrayList" "java/util/AbstractList") ∈ lw_all := lw_g (lw_at lw_m1 76 rfl) rfl
theorem q793 : (Jvm.Cond.instanceMethod ({ cls := "java/util/ArrayList", name := "size", desc := "()I" } : Jvm.MethodName)) ∈ lw_all := lw_g (lw_at lw_m4 9 rfl) rfl
theorem q794 : (Jvm.Cond.selects "java/util/ArrayList" ({ cls := "java/util/ArrayList", name := "size", desc := "()I" } : Jvm.MethodName) ({ cls := "java/util/ArrayList", name := "size", desc := "()I" } : Jvm.MethodName)) ∈ lw_all := lw_g (lw_at lw_m4 10 rfl) rfl
theorem q795 : (Jvm.Cond.code ({ cls := "java/util/ArrayList", name := "size", desc := "()I" } : Jvm.MethodName) prog_35_method_8_code (1 : Nat) (Option.some Jvm.ClassFile.FieldType.int)) ∈ lw_all := lw_g (lw_at lw_m4 11 rfl) rfl
theorem q838 : (Jvm.Cond.instanceMethod ({ cls := "java/util/ArrayList", name := "add", desc := "(Ljava/lang/Object;)Z" } : Jvm.MethodName)) ∈ lw_all := lw_g (lw_at lw_m4 54 rfl) rfl
theorem q839 : (Jvm.Cond.selects "java/util/ArrayList" ({ cls := "java/util/ArrayList", name := "add", desc := "(Ljava/lang/Object;)Z" } : Jvm.MethodName) ({ cls := "java/util/ArrayList", name := "add", desc := "(Ljava/lang/Object;)Z" } : Jvm.MethodName)) ∈ lw_all := lw_g (lw_at lw_m4 55 rfl) rfl
theorem q840 : (Jvm.Cond.code ({ cls := "java/util/ArrayList", name := "add", desc := "(Ljava/lang/Object;)Z" } : Jvm.MethodName) prog_35_method_25_code (2 : Nat) (Option.some Jvm.ClassFile.FieldType.boolean)) ∈ lw_all := lw_g (lw_at lw_m4 56 rfl) rfl
theorem q841 : (Jvm.Cond.methodLink "java/util/ArrayList" (131 : Nat) ({ cls := "java/util/ArrayList", name := "add", desc := "(Ljava/lang/Object;[Ljava/lang/Object;I)V" } : Jvm.MethodName)) ∈ lw_all := lw_g (lw_at lw_m4 57 rfl) rfl
theorem q842 : (Jvm.Cond.privateMethod ({ cls := "java/util/ArrayList", name := "add", desc := "(Ljava/lang/Object;[Ljava/lang/Object;I)V" } : Jvm.MethodName)) ∈ lw_tbl := lw_at lw_m4 58 rfl
theorem q843 : (Jvm.Cond.instanceMethod ({ cls := "java/util/ArrayList", name := "add", desc := "(Ljava/lang/Object;[Ljava/lang/Object;I)V" } : Jvm.MethodName)) ∈ lw_all := lw_g (lw_at lw_m4 59 rfl) rfl
theorem q844 : (Jvm.Cond.code ({ cls := "java/util/ArrayList", name := "add", desc := "(Ljava/lang/Object;[Ljava/lang/Object;I)V" } : Jvm.MethodName) prog_35_method_24_code (4 : Nat) (Option.none : Option Jvm.ClassFile.FieldType)) ∈ lw_all := lw_g (lw_at lw_m4 60 rfl) rfl
theorem q845 : (Jvm.Cond.methodLink "java/util/ArrayList" (129 : Nat) ({ cls := "java/util/ArrayList", name := "grow", desc := "()[Ljava/lang/Object;" } : Jvm.MethodName)) ∈ lw_all := lw_g (lw_at lw_m4 61 rfl) rfl
theorem q846 : (Jvm.Cond.privateMethod ({ cls := "java/util/ArrayList", name := "grow", desc := "()[Ljava/lang/Object;" } : Jvm.MethodName)) ∈ lw_tbl := lw_at lw_m4 62 rfl
theorem q847 : (Jvm.Cond.instanceMethod ({ cls := "java/util/ArrayList", name := "grow", desc := "()[Ljava/lang/Object;" } : Jvm.MethodName)) ∈ lw_all := lw_g (lw_at lw_m4 63 rfl) rfl
theorem q848 : (Jvm.Cond.code ({ cls := "java/util/ArrayList", name := "grow", desc := "()[Ljava/lang/Object;" } : Jvm.MethodName) prog_35_method_7_code (1 : Nat) (Option.some (Jvm.ClassFile.FieldType.array (Jvm.ClassFile.FieldType.object "java/lang/Object")))) ∈ lw_all := lw_g (lw_at lw_m4 64 rfl) rfl
theorem q849 : (Jvm.Cond.methodLink "java/util/ArrayList" (69 : Nat) ({ cls := "java/util/ArrayList", name := "grow", desc := "(I)[Ljava/lang/Object;" } : Jvm.MethodName)) ∈ lw_all := lw_g (lw_at lw_m4 65 rfl) rfl
theorem q850 : (Jvm.Cond.privateMethod ({ cls := "java/util/ArrayList", name := "grow", desc := "(I)[Ljava/lang/Object;" } : Jvm.MethodName)) ∈ lw_tbl := lw_at lw_m4 66 rfl
theorem q851 : (Jvm.Cond.instanceMethod ({ cls := "java/util/ArrayList", name := "grow", desc := "(I)[Ljava/lang/Object;" } : Jvm.MethodName)) ∈ lw_all := lw_g (lw_at lw_m4 67 rfl) rfl
theorem q852 : (Jvm.Cond.code ({ cls := "java/util/ArrayList", name := "grow", desc := "(I)[Ljava/lang/Object;" } : Jvm.MethodName) prog_35_method_6_code (4 : Nat) (Option.some (Jvm.ClassFile.FieldType.array (Jvm.ClassFile.FieldType.object "java/lang/Object")))) ∈ lw_all := lw_g (lw_at lw_m4 68 rfl) rfl
theorem q853 : (Jvm.Cond.methodLink "java/util/ArrayList" (73 : Nat) ({ cls := "jdk/internal/util/ArraysSupport", name := "newLength", desc := "(III)I" } : Jvm.MethodName)) ∈ lw_all := lw_g (lw_at lw_m4 69 rfl) rfl
theorem q854 : (Jvm.Cond.methodLink "java/util/ArrayList" (66 : Nat) ({ cls := "java/util/Arrays", name := "copyOf", desc := "([Ljava/lang/Object;I)[Ljava/lang/Object;" } : Jvm.MethodName)) ∈ lw_all := lw_g (lw_at lw_m4 70 rfl) rfl
theorem q878 : (Jvm.Cond.selects "java/util/ArrayList" ({ cls := "java/lang/Object", name := "getClass", desc := "()Ljava/lang/Class;" } : Jvm.MethodName) ({ cls := "java/lang/Object", name := "getClass", desc := "()Ljava/lang/Class;" } : Jvm.MethodName)) ∈ lw_all := lw_g (lw_at lw_m4 94 rfl) rfl
theorem q887 : (Jvm.Cond.methodLink "java/util/ArrayList" (79 : Nat) ({ cls := "java/lang/Math", name := "max", desc := "(II)I" } : Jvm.MethodName)) ∈ lw_all := lw_g (lw_at lw_m4 103 rfl) rfl
theorem q888 : (Jvm.Cond.classLink "java/util/ArrayList" (7 : Nat) "java/lang/Object") ∈ lw_all := lw_g (lw_at lw_m4 104 rfl) rfl
theorem q890 : (Jvm.Cond.instanceMethod ({ cls := "java/util/ArrayList", name := "get", desc := "(I)Ljava/lang/Object;" } : Jvm.MethodName)) ∈ lw_all := lw_g (lw_at lw_m4 106 rfl) rfl
theorem q891 : (Jvm.Cond.selects "java/util/ArrayList" ({ cls := "java/util/ArrayList", name := "get", desc := "(I)Ljava/lang/Object;" } : Jvm.MethodName) ({ cls := "java/util/ArrayList", name := "get", desc := "(I)Ljava/lang/Object;" } : Jvm.MethodName)) ∈ lw_all := lw_g (lw_at lw_m4 107 rfl) rfl
theorem q892 : (Jvm.Cond.code ({ cls := "java/util/ArrayList", name := "get", desc := "(I)Ljava/lang/Object;" } : Jvm.MethodName) prog_35_method_20_code (2 : Nat) (Option.some (Jvm.ClassFile.FieldType.object "java/lang/Object"))) ∈ lw_all := lw_g (lw_at lw_m4 108 rfl) rfl
theorem q893 : (Jvm.Cond.methodLink "java/util/ArrayList" (118 : Nat) ({ cls := "java/util/Objects", name := "checkIndex", desc := "(II)I" } : Jvm.MethodName)) ∈ lw_all := lw_g (lw_at lw_m4 109 rfl) rfl
theorem q897 : (Jvm.Cond.methodLink "java/util/ArrayList" (123 : Nat) ({ cls := "java/util/ArrayList", name := "elementData", desc := "(I)Ljava/lang/Object;" } : Jvm.MethodName)) ∈ lw_all := lw_g (lw_at lw_m4 113 rfl) rfl
theorem q898 : (Jvm.Cond.instanceMethod ({ cls := "java/util/ArrayList", name := "elementData", desc := "(I)Ljava/lang/Object;" } : Jvm.MethodName)) ∈ lw_all := lw_g (lw_at lw_m4 114 rfl) rfl
theorem q899 : (Jvm.Cond.selects "java/util/ArrayList" ({ cls := "java/util/ArrayList", name := "elementData", desc := "(I)Ljava/lang/Object;" } : Jvm.MethodName) ({ cls := "java/util/ArrayList", name := "elementData", desc := "(I)Ljava/lang/Object;" } : Jvm.MethodName)) ∈ lw_all := lw_g (lw_at lw_m4 115 rfl) rfl
theorem q900 : (Jvm.Cond.code ({ cls := "java/util/ArrayList", name := "elementData", desc := "(I)Ljava/lang/Object;" } : Jvm.MethodName) prog_35_method_18_code (2 : Nat) (Option.some (Jvm.ClassFile.FieldType.object "java/lang/Object"))) ∈ lw_all := lw_g (lw_at lw_m4 116 rfl) rfl
theorem q1668 : (Jvm.Cond.castable "java/util/ArrayList" "java/lang/Object") ∈ lw_tbl := lw_at lw_m7 164 rfl
theorem in_J2 : ∀ w ∈ wsJ20, w ∈ lw_all := lw_in wsJ20 [138, 134, 136] (by decide +kernel) (by decide +kernel)

/-! TraceWarden$Duties -/
def RX3 : String := "TraceWarden$Duties"
def TX3 : u_T := fun k => match k with
  | 0 => ("TraceWarden$Duties", "many", "I", false)
  | 1 => ("TraceWarden$Duties", "properties", "[LTraceWarden$Part;", true)
  | 2 => ("TraceWarden$Duties", "truths", "[I", true)
  | 3 => ("TraceWarden$Duties", "follows", "[I", true)
  | 4 => ("TraceWarden$Duties", "ends", "[Z", true)
  | 5 => ("TraceWarden$Duties", "behind", "[LTraceWarden$Part;", true)
  | 6 => ("TraceWarden$Duties", "asked", "[LTraceWarden$Row;", true)
  | 7 => ("TraceWarden$Duties", "rows", "Ljava/util/ArrayList;", true)
  | _ => ("TraceWarden$Duties", "lent", "I", false)
def tyX3 : Nat → FieldType := fun k => match k with
  | 0 => .int
  | 1 => .array (.object "TraceWarden$Part")
  | 2 => .array .int
  | 3 => .array .int
  | 4 => .array .boolean
  | 5 => .array (.object "TraceWarden$Part")
  | 6 => .array (.object "TraceWarden$Row")
  | 7 => .object "java/util/ArrayList"
  | _ => .int
abbrev wsX30 : List Cond := u_ws RX3 TX3 9
theorem nmX3 : ∀ a, a < 9 → ∀ b, b < 9 → a ≠ b → (TX3 a).2.1 ≠ (TX3 b).2.1 := by decide +kernel
theorem tyX3_ok : ∀ k, k < 9 → parseFieldDescriptor (TX3 k).2.2.1 = some (tyX3 k) := by decide +kernel
abbrev cX3_init : ByteArray := prog_3_method_1_code
def yX3_init : MethodName := ⟨RX3, "<init>", "()V"⟩
abbrev cX3_take : ByteArray := prog_3_method_4_code
def yX3_take : MethodName := ⟨RX3, "take", "(LTraceWarden$Part;)V"⟩
abbrev cX3_walk : ByteArray := prog_3_method_5_code
def yX3_walk : MethodName := ⟨RX3, "walk", "(LTraceWarden$Duties;LTraceWarden$Part;Z)V"⟩
abbrev cX3_fresh : ByteArray := prog_3_method_3_code
def yX3_fresh : MethodName := ⟨RX3, "fresh", "(LTraceWarden$Part;)I"⟩
abbrev cX3_lay : ByteArray := prog_3_method_6_code
def yX3_lay : MethodName := ⟨RX3, "lay", "(LTraceWarden$Duties;LTraceWarden$Part;LTraceWarden$Part;)I"⟩
abbrev cX3_follow : ByteArray := prog_3_method_7_code
def yX3_follow : MethodName := ⟨RX3, "follow", "(II)V"⟩
abbrev cX3_place : ByteArray := prog_3_method_8_code
def yX3_place : MethodName := ⟨RX3, "place", "(LTraceWarden$Duties;IILTraceWarden$Row;)V"⟩
abbrev cX3_lend : ByteArray := prog_3_method_2_code
def yX3_lend : MethodName := ⟨RX3, "lend", "()LTraceWarden$Row;"⟩
abbrev cX3_ask : ByteArray := prog_3_method_9_code
def yX3_ask : MethodName := ⟨RX3, "ask", "(LTraceWarden$Duties;LTraceWarden$Part;ILTraceWarden$Row;)V"⟩
abbrev cX3_pass : ByteArray := prog_3_method_10_code
def yX3_pass : MethodName := ⟨RX3, "pass", "(LTraceWarden$Row;ILTraceWarden$Row;)V"⟩
theorem q70 : (Jvm.Cond.initialized "TraceWarden$Duties") ∈ lw_all := lw_g (lw_at lw_m1 6 rfl) rfl
theorem q162 : (Jvm.Cond.instantiable "TraceWarden$Duties" (9 : Nat)) ∈ lw_all := lw_g (lw_at lw_m1 98 rfl) rfl
theorem q164 : (Jvm.Cond.instanceMethod ({ cls := "TraceWarden$Duties", name := "<init>", desc := "()V" } : Jvm.MethodName)) ∈ lw_all := lw_g (lw_at lw_m1 100 rfl) rfl
theorem q165 : (Jvm.Cond.code ({ cls := "TraceWarden$Duties", name := "<init>", desc := "()V" } : Jvm.MethodName) prog_3_method_1_code (2 : Nat) (Option.none : Option Jvm.ClassFile.FieldType)) ∈ lw_all := lw_g (lw_at lw_m1 101 rfl) rfl
theorem q166 : (Jvm.Cond.methodLink "TraceWarden$Duties" (3 : Nat) ({ cls := "java/lang/Object", name := "<init>", desc := "()V" } : Jvm.MethodName)) ∈ lw_all := lw_g (lw_at lw_m1 102 rfl) rfl
theorem q167 : (Jvm.Cond.classLink "TraceWarden$Duties" (9 : Nat) "TraceWarden$Part") ∈ lw_all := lw_g (lw_at lw_m1 103 rfl) rfl
theorem q169 : (Jvm.Cond.classLink "TraceWarden$Duties" (31 : Nat) "TraceWarden$Row") ∈ lw_all := lw_g (lw_at lw_m1 105 rfl) rfl
theorem q171 : (Jvm.Cond.classLink "TraceWarden$Duties" (37 : Nat) "java/util/ArrayList") ∈ lw_all := lw_g (lw_at lw_m1 107 rfl) rfl
theorem q172 : (Jvm.Cond.methodLink "TraceWarden$Duties" (39 : Nat) ({ cls := "java/util/ArrayList", name := "<init>", desc := "()V" } : Jvm.MethodName)) ∈ lw_all := lw_g (lw_at lw_m1 108 rfl) rfl
theorem q174 : (Jvm.Cond.methodLinkNest "TraceWarden$Duties" (44 : Nat) ({ cls := "TraceWarden$Row", name := "<init>", desc := "()V" } : Jvm.MethodName) "TraceWarden") ∈ lw_tbl := lw_at lw_m1 110 rfl
theorem q179 : (Jvm.Cond.fieldLinkNest "TraceWarden$Duties" (166 : Nat) "TraceWarden$Row" "sets" "[I" "TraceWarden") ∈ lw_tbl := lw_at lw_m1 115 rfl
theorem q182 : (Jvm.Cond.fieldLinkNest "TraceWarden$Duties" (165 : Nat) "TraceWarden$Row" "many" "I" "TraceWarden") ∈ lw_tbl := lw_at lw_m1 118 rfl
theorem q190 : (Jvm.Cond.fieldLink "TraceWarden$Duties" (61 : Nat) "TraceWarden$Duties" "many" "I") ∈ lw_all := lw_g (lw_at lw_m1 126 rfl) rfl
theorem q192 : (Jvm.Cond.fieldLink "TraceWarden$Duties" (11 : Nat) "TraceWarden$Duties" "properties" "[LTraceWarden$Part;") ∈ lw_all := lw_g (lw_at lw_m1 128 rfl) rfl
theorem q193 : (Jvm.Cond.fieldLink "TraceWarden$Duties" (17 : Nat) "TraceWarden$Duties" "truths" "[I") ∈ lw_all := lw_g (lw_at lw_m1 129 rfl) rfl
theorem q194 : (Jvm.Cond.fieldLink "TraceWarden$Duties" (21 : Nat) "TraceWarden$Duties" "follows" "[I") ∈ lw_all := lw_g (lw_at lw_m1 130 rfl) rfl
theorem q195 : (Jvm.Cond.fieldLink "TraceWarden$Duties" (24 : Nat) "TraceWarden$Duties" "ends" "[Z") ∈ lw_all := lw_g (lw_at lw_m1 131 rfl) rfl
theorem q196 : (Jvm.Cond.fieldLink "TraceWarden$Duties" (28 : Nat) "TraceWarden$Duties" "behind" "[LTraceWarden$Part;") ∈ lw_all := lw_g (lw_at lw_m1 132 rfl) rfl
theorem q197 : (Jvm.Cond.fieldLink "TraceWarden$Duties" (33 : Nat) "TraceWarden$Duties" "asked" "[LTraceWarden$Row;") ∈ lw_all := lw_g (lw_at lw_m1 133 rfl) rfl
theorem q198 : (Jvm.Cond.fieldLink "TraceWarden$Duties" (40 : Nat) "TraceWarden$Duties" "rows" "Ljava/util/ArrayList;") ∈ lw_all := lw_g (lw_at lw_m1 134 rfl) rfl
theorem q199 : (Jvm.Cond.fieldLink "TraceWarden$Duties" (45 : Nat) "TraceWarden$Duties" "lent" "I") ∈ lw_all := lw_g (lw_at lw_m1 135 rfl) rfl
theorem q200 : (Jvm.Cond.lays "TraceWarden$Duties" "TraceWarden$Duties" "many" "I") ∈ lw_all := lw_g (lw_at lw_m1 136 rfl) rfl
theorem q201 : (Jvm.Cond.soleField "TraceWarden$Duties" "many") ∈ lw_all := lw_g (lw_at lw_m1 137 rfl) rfl
theorem q202 : (Jvm.Cond.laysFinal "TraceWarden$Duties" "TraceWarden$Duties" "properties" "[LTraceWarden$Part;") ∈ lw_all := lw_g (lw_at lw_m1 138 rfl) rfl
theorem q203 : (Jvm.Cond.soleField "TraceWarden$Duties" "properties") ∈ lw_all := lw_g (lw_at lw_m1 139 rfl) rfl
theorem q204 : (Jvm.Cond.laysFinal "TraceWarden$Duties" "TraceWarden$Duties" "truths" "[I") ∈ lw_all := lw_g (lw_at lw_m1 140 rfl) rfl
theorem q205 : (Jvm.Cond.soleField "TraceWarden$Duties" "truths") ∈ lw_all := lw_g (lw_at lw_m1 141 rfl) rfl
theorem q206 : (Jvm.Cond.laysFinal "TraceWarden$Duties" "TraceWarden$Duties" "follows" "[I") ∈ lw_all := lw_g (lw_at lw_m1 142 rfl) rfl
theorem q207 : (Jvm.Cond.soleField "TraceWarden$Duties" "follows") ∈ lw_all := lw_g (lw_at lw_m1 143 rfl) rfl
theorem q208 : (Jvm.Cond.laysFinal "TraceWarden$Duties" "TraceWarden$Duties" "ends" "[Z") ∈ lw_all := lw_g (lw_at lw_m1 144 rfl) rfl
theorem q209 : (Jvm.Cond.soleField "TraceWarden$Duties" "ends") ∈ lw_all := lw_g (lw_at lw_m1 145 rfl) rfl
theorem q210 : (Jvm.Cond.laysFinal "TraceWarden$Duties" "TraceWarden$Duties" "behind" "[LTraceWarden$Part;") ∈ lw_all := lw_g (lw_at lw_m1 146 rfl) rfl
theorem q211 : (Jvm.Cond.soleField "TraceWarden$Duties" "behind") ∈ lw_all := lw_g (lw_at lw_m1 147 rfl) rfl
theorem q212 : (Jvm.Cond.laysFinal "TraceWarden$Duties" "TraceWarden$Duties" "asked" "[LTraceWarden$Row;") ∈ lw_all := lw_g (lw_at lw_m1 148 rfl) rfl
theorem q213 : (Jvm.Cond.soleField "TraceWarden$Duties" "asked") ∈ lw_all := lw_g (lw_at lw_m1 149 rfl) rfl
theorem q214 : (Jvm.Cond.laysFinal "TraceWarden$Duties" "TraceWarden$Duties" "rows" "Ljava/util/ArrayList;") ∈ lw_all := lw_g (lw_at lw_m1 150 rfl) rfl
theorem q215 : (Jvm.Cond.soleField "TraceWarden$Duties" "rows") ∈ lw_all := lw_g (lw_at lw_m1 151 rfl) rfl
theorem q216 : (Jvm.Cond.lays "TraceWarden$Duties" "TraceWarden$Duties" "lent" "I") ∈ lw_all := lw_g (lw_at lw_m1 152 rfl) rfl
theorem q217 : (Jvm.Cond.soleField "TraceWarden$Duties" "lent") ∈ lw_all := lw_g (lw_at lw_m1 153 rfl) rfl
theorem q218 : (Jvm.Cond.superclass "TraceWarden$Duties" "java/lang/Object") ∈ lw_all := lw_g (lw_at lw_m1 154 rfl) rfl
theorem q803 : (Jvm.Cond.fieldLinkNest "TraceWarden$Duties" (79 : Nat) "TraceWarden$Part" "kind" "LTraceWarden$Kind;" "TraceWarden") ∈ lw_tbl := lw_at lw_m4 19 rfl
theorem q805 : (Jvm.Cond.fieldLinkNest "TraceWarden$Duties" (101 : Nat) "TraceWarden$Part" "left" "LTraceWarden$Part;" "TraceWarden") ∈ lw_tbl := lw_at lw_m4 21 rfl
theorem q807 : (Jvm.Cond.fieldLinkNest "TraceWarden$Duties" (112 : Nat) "TraceWarden$Part" "right" "LTraceWarden$Part;" "TraceWarden") ∈ lw_tbl := lw_at lw_m4 23 rfl
theorem q809 : (Jvm.Cond.fieldLinkNest "TraceWarden$Duties" (118 : Nat) "TraceWarden$Part" "truth" "I" "TraceWarden") ∈ lw_tbl := lw_at lw_m4 25 rfl
theorem q811 : (Jvm.Cond.fieldLinkNest "TraceWarden$Duties" (125 : Nat) "TraceWarden$Part" "least" "I" "TraceWarden") ∈ lw_tbl := lw_at lw_m4 27 rfl
theorem q813 : (Jvm.Cond.fieldLinkNest "TraceWarden$Duties" (128 : Nat) "TraceWarden$Part" "most" "I" "TraceWarden") ∈ lw_tbl := lw_at lw_m4 29 rfl
theorem q817 : (Jvm.Cond.fieldLinkNest "TraceWarden$Duties" (95 : Nat) "TraceWarden$Part" "own" "I" "TraceWarden") ∈ lw_tbl := lw_at lw_m4 33 rfl
theorem q819 : (Jvm.Cond.fieldLinkNest "TraceWarden$Duties" (109 : Nat) "TraceWarden$Part" "first" "I" "TraceWarden") ∈ lw_tbl := lw_at lw_m4 35 rfl
theorem q862 : (Jvm.Cond.selects "TraceWarden$Duties" ({ cls := "java/lang/Object", name := "getClass", desc := "()Ljava/lang/Class;" } : Jvm.MethodName) ({ cls := "java/lang/Object", name := "getClass", desc := "()Ljava/lang/Class;" } : Jvm.MethodName)) ∈ lw_all := lw_g (lw_at lw_m4 78 rfl) rfl
theorem q962 : (Jvm.Cond.instanceMethod ({ cls := "TraceWarden$Duties", name := "take", desc := "(LTraceWarden$Part;)V" } : Jvm.MethodName)) ∈ lw_all := lw_g (lw_at lw_m4 178 rfl) rfl
theorem q963 : (Jvm.Cond.selects "TraceWarden$Duties" ({ cls := "TraceWarden$Duties", name := "take", desc := "(LTraceWarden$Part;)V" } : Jvm.MethodName) ({ cls := "TraceWarden$Duties", name := "take", desc := "(LTraceWarden$Part;)V" } : Jvm.MethodName)) ∈ lw_all := lw_g (lw_at lw_m4 179 rfl) rfl
theorem q964 : (Jvm.Cond.code ({ cls := "TraceWarden$Duties", name := "take", desc := "(LTraceWarden$Part;)V" } : Jvm.MethodName) prog_3_method_4_code (5 : Nat) (Option.none : Option Jvm.ClassFile.FieldType)) ∈ lw_all := lw_g (lw_at lw_m4 180 rfl) rfl
theorem q965 : (Jvm.Cond.methodLink "TraceWarden$Duties" (67 : Nat) ({ cls := "TraceWarden$Duties", name := "walk", desc := "(LTraceWarden$Duties;LTraceWarden$Part;Z)V" } : Jvm.MethodName)) ∈ lw_all := lw_g (lw_at lw_m4 181 rfl) rfl
theorem q966 : (Jvm.Cond.static ({ cls := "TraceWarden$Duties", name := "walk", desc := "(LTraceWarden$Duties;LTraceWarden$Part;Z)V" } : Jvm.MethodName)) ∈ lw_all := lw_g (lw_at lw_m4 182 rfl) rfl
theorem q967 : (Jvm.Cond.code ({ cls := "TraceWarden$Duties", name := "walk", desc := "(LTraceWarden$Duties;LTraceWarden$Part;Z)V" } : Jvm.MethodName) prog_3_method_5_code (5 : Nat) (Option.none : Option Jvm.ClassFile.FieldType)) ∈ lw_all := lw_g (lw_at lw_m4 183 rfl) rfl
theorem q968 : (Jvm.Cond.fieldLink "TraceWarden$Duties" (83 : Nat) "TraceWarden$Kind" "ALWAYS" "LTraceWarden$Kind;") ∈ lw_all := lw_g (lw_at lw_m4 184 rfl) rfl
theorem q969 : (Jvm.Cond.fieldLink "TraceWarden$Duties" (88 : Nat) "TraceWarden$Kind" "UNTIL" "LTraceWarden$Kind;") ∈ lw_all := lw_g (lw_at lw_m4 185 rfl) rfl
theorem q970 : (Jvm.Cond.methodLink "TraceWarden$Duties" (91 : Nat) ({ cls := "TraceWarden$Duties", name := "fresh", desc := "(LTraceWarden$Part;)I" } : Jvm.MethodName)) ∈ lw_all := lw_g (lw_at lw_m4 186 rfl) rfl
theorem q971 : (Jvm.Cond.privateMethod ({ cls := "TraceWarden$Duties", name := "fresh", desc := "(LTraceWarden$Part;)I" } : Jvm.MethodName)) ∈ lw_tbl := lw_at lw_m4 187 rfl
theorem q972 : (Jvm.Cond.instanceMethod ({ cls := "TraceWarden$Duties", name := "fresh", desc := "(LTraceWarden$Part;)I" } : Jvm.MethodName)) ∈ lw_all := lw_g (lw_at lw_m4 188 rfl) rfl
theorem q973 : (Jvm.Cond.code ({ cls := "TraceWarden$Duties", name := "fresh", desc := "(LTraceWarden$Part;)I" } : Jvm.MethodName) prog_3_method_3_code (2 : Nat) (Option.some Jvm.ClassFile.FieldType.int)) ∈ lw_all := lw_g (lw_at lw_m4 189 rfl) rfl
theorem q974 : (Jvm.Cond.classLink "TraceWarden$Duties" (64 : Nat) "java/lang/UnsupportedOperationException") ∈ lw_all := lw_g (lw_at lw_m4 190 rfl) rfl
theorem q983 : (Jvm.Cond.methodLink "TraceWarden$Duties" (66 : Nat) ({ cls := "java/lang/UnsupportedOperationException", name := "<init>", desc := "()V" } : Jvm.MethodName)) ∈ lw_all := lw_g (lw_at lw_m4 199 rfl) rfl
theorem q989 : (Jvm.Cond.methodLink "TraceWarden$Duties" (98 : Nat) ({ cls := "TraceWarden$Kind", name := "ordinal", desc := "()I" } : Jvm.MethodName)) ∈ lw_all := lw_g (lw_at lw_m4 205 rfl) rfl
theorem q995 : (Jvm.Cond.methodLink "TraceWarden$Duties" (105 : Nat) ({ cls := "TraceWarden$Duties", name := "lay", desc := "(LTraceWarden$Duties;LTraceWarden$Part;LTraceWarden$Part;)I" } : Jvm.MethodName)) ∈ lw_all := lw_g (lw_at lw_m4 211 rfl) rfl
theorem q996 : (Jvm.Cond.static ({ cls := "TraceWarden$Duties", name := "lay", desc := "(LTraceWarden$Duties;LTraceWarden$Part;LTraceWarden$Part;)I" } : Jvm.MethodName)) ∈ lw_all := lw_g (lw_at lw_m4 212 rfl) rfl
theorem q997 : (Jvm.Cond.code ({ cls := "TraceWarden$Duties", name := "lay", desc := "(LTraceWarden$Duties;LTraceWarden$Part;LTraceWarden$Part;)I" } : Jvm.MethodName) prog_3_method_6_code (8 : Nat) (Option.some Jvm.ClassFile.FieldType.int)) ∈ lw_all := lw_g (lw_at lw_m4 213 rfl) rfl
theorem q998 : (Jvm.Cond.methodLink "TraceWarden$Duties" (121 : Nat) ({ cls := "TraceWarden$Duties", name := "follow", desc := "(II)V" } : Jvm.MethodName)) ∈ lw_all := lw_g (lw_at lw_m4 214 rfl) rfl
theorem q999 : (Jvm.Cond.privateMethod ({ cls := "TraceWarden$Duties", name := "follow", desc := "(II)V" } : Jvm.MethodName)) ∈ lw_tbl := lw_at lw_m4 215 rfl
theorem q1000 : (Jvm.Cond.instanceMethod ({ cls := "TraceWarden$Duties", name := "follow", desc := "(II)V" } : Jvm.MethodName)) ∈ lw_all := lw_g (lw_at lw_m4 216 rfl) rfl
theorem q1001 : (Jvm.Cond.code ({ cls := "TraceWarden$Duties", name := "follow", desc := "(II)V" } : Jvm.MethodName) prog_3_method_7_code (4 : Nat) (Option.none : Option Jvm.ClassFile.FieldType)) ∈ lw_all := lw_g (lw_at lw_m4 217 rfl) rfl
theorem q1002 : (Jvm.Cond.fieldLink "TraceWarden$Duties" (115 : Nat) "TraceWarden$Kind" "BEHIND" "LTraceWarden$Kind;") ∈ lw_all := lw_g (lw_at lw_m4 218 rfl) rfl
theorem q1003 : (Jvm.Cond.methodLink "TraceWarden$Duties" (71 : Nat) ({ cls := "TraceWarden$Duties", name := "place", desc := "(LTraceWarden$Duties;IILTraceWarden$Row;)V" } : Jvm.MethodName)) ∈ lw_all := lw_g (lw_at lw_m4 219 rfl) rfl
theorem q1004 : (Jvm.Cond.static ({ cls := "TraceWarden$Duties", name := "place", desc := "(LTraceWarden$Duties;IILTraceWarden$Row;)V" } : Jvm.MethodName)) ∈ lw_all := lw_g (lw_at lw_m4 220 rfl) rfl
theorem q1005 : (Jvm.Cond.code ({ cls := "TraceWarden$Duties", name := "place", desc := "(LTraceWarden$Duties;IILTraceWarden$Row;)V" } : Jvm.MethodName) prog_3_method_8_code (7 : Nat) (Option.none : Option Jvm.ClassFile.FieldType)) ∈ lw_all := lw_g (lw_at lw_m4 221 rfl) rfl
theorem q1006 : (Jvm.Cond.methodLink "TraceWarden$Duties" (131 : Nat) ({ cls := "TraceWarden$Row", name := "nothing", desc := "()V" } : Jvm.MethodName)) ∈ lw_all := lw_g (lw_at lw_m4 222 rfl) rfl
theorem q1010 : (Jvm.Cond.methodLink "TraceWarden$Duties" (134 : Nat) ({ cls := "TraceWarden$Row", name := "one", desc := "(I)V" } : Jvm.MethodName)) ∈ lw_all := lw_g (lw_at lw_m4 226 rfl) rfl
theorem q1014 : (Jvm.Cond.methodLink "TraceWarden$Duties" (138 : Nat) ({ cls := "TraceWarden$Duties", name := "lend", desc := "()LTraceWarden$Row;" } : Jvm.MethodName)) ∈ lw_all := lw_g (lw_at lw_m4 230 rfl) rfl
theorem q1015 : (Jvm.Cond.privateMethod ({ cls := "TraceWarden$Duties", name := "lend", desc := "()LTraceWarden$Row;" } : Jvm.MethodName)) ∈ lw_tbl := lw_at lw_m4 231 rfl
theorem q1016 : (Jvm.Cond.instanceMethod ({ cls := "TraceWarden$Duties", name := "lend", desc := "()LTraceWarden$Row;" } : Jvm.MethodName)) ∈ lw_all := lw_g (lw_at lw_m4 232 rfl) rfl
theorem q1017 : (Jvm.Cond.code ({ cls := "TraceWarden$Duties", name := "lend", desc := "()LTraceWarden$Row;" } : Jvm.MethodName) prog_3_method_2_code (1 : Nat) (Option.some (Jvm.ClassFile.FieldType.object "TraceWarden$Row"))) ∈ lw_all := lw_g (lw_at lw_m4 233 rfl) rfl
theorem q1018 : (Jvm.Cond.methodLink "TraceWarden$Duties" (49 : Nat) ({ cls := "java/util/ArrayList", name := "size", desc := "()I" } : Jvm.MethodName)) ∈ lw_all := lw_g (lw_at lw_m4 234 rfl) rfl
theorem q1019 : (Jvm.Cond.methodLink "TraceWarden$Duties" (53 : Nat) ({ cls := "java/util/ArrayList", name := "add", desc := "(Ljava/lang/Object;)Z" } : Jvm.MethodName)) ∈ lw_all := lw_g (lw_at lw_m4 235 rfl) rfl
theorem q1020 : (Jvm.Cond.methodLink "TraceWarden$Duties" (57 : Nat) ({ cls := "java/util/ArrayList", name := "get", desc := "(I)Ljava/lang/Object;" } : Jvm.MethodName)) ∈ lw_all := lw_g (lw_at lw_m4 236 rfl) rfl
theorem q1021 : (Jvm.Cond.methodLink "TraceWarden$Duties" (142 : Nat) ({ cls := "TraceWarden$Row", name := "copy", desc := "(LTraceWarden$Row;)V" } : Jvm.MethodName)) ∈ lw_all := lw_g (lw_at lw_m4 237 rfl) rfl
theorem q1026 : (Jvm.Cond.methodLink "TraceWarden$Duties" (75 : Nat) ({ cls := "TraceWarden$Duties", name := "ask", desc := "(LTraceWarden$Duties;LTraceWarden$Part;ILTraceWarden$Row;)V" } : Jvm.MethodName)) ∈ lw_all := lw_g (lw_at lw_m5 2 rfl) rfl
theorem q1027 : (Jvm.Cond.static ({ cls := "TraceWarden$Duties", name := "ask", desc := "(LTraceWarden$Duties;LTraceWarden$Part;ILTraceWarden$Row;)V" } : Jvm.MethodName)) ∈ lw_all := lw_g (lw_at lw_m5 3 rfl) rfl
theorem q1028 : (Jvm.Cond.code ({ cls := "TraceWarden$Duties", name := "ask", desc := "(LTraceWarden$Duties;LTraceWarden$Part;ILTraceWarden$Row;)V" } : Jvm.MethodName) prog_3_method_9_code (7 : Nat) (Option.none : Option Jvm.ClassFile.FieldType)) ∈ lw_all := lw_g (lw_at lw_m5 4 rfl) rfl
theorem q1029 : (Jvm.Cond.fieldLink "TraceWarden$Duties" (150 : Nat) "TraceWarden$Kind" "TRUTH" "LTraceWarden$Kind;") ∈ lw_all := lw_g (lw_at lw_m5 5 rfl) rfl
theorem q1030 : (Jvm.Cond.methodLink "TraceWarden$Duties" (153 : Nat) ({ cls := "TraceWarden$Row", name := "impossible", desc := "()V" } : Jvm.MethodName)) ∈ lw_all := lw_g (lw_at lw_m5 6 rfl) rfl
theorem q1034 : (Jvm.Cond.fieldLink "TraceWarden$Duties" (156 : Nat) "TraceWarden$Kind" "NEXT" "LTraceWarden$Kind;") ∈ lw_all := lw_g (lw_at lw_m5 10 rfl) rfl
theorem q1035 : (Jvm.Cond.methodLink "TraceWarden$Duties" (146 : Nat) ({ cls := "TraceWarden$Row", name := "and", desc := "(LTraceWarden$Row;LTraceWarden$Row;)V" } : Jvm.MethodName)) ∈ lw_all := lw_g (lw_at lw_m5 11 rfl) rfl
theorem q1043 : (Jvm.Cond.methodLink "TraceWarden$Duties" (159 : Nat) ({ cls := "TraceWarden$Row", name := "or", desc := "(LTraceWarden$Row;)V" } : Jvm.MethodName)) ∈ lw_all := lw_g (lw_at lw_m5 19 rfl) rfl
theorem q1047 : (Jvm.Cond.fieldLink "TraceWarden$Duties" (162 : Nat) "TraceWarden$Kind" "BOTH" "LTraceWarden$Kind;") ∈ lw_all := lw_g (lw_at lw_m5 23 rfl) rfl
theorem q1054 : (Jvm.Cond.instanceMethod ({ cls := "TraceWarden$Duties", name := "pass", desc := "(LTraceWarden$Row;ILTraceWarden$Row;)V" } : Jvm.MethodName)) ∈ lw_all := lw_g (lw_at lw_m5 30 rfl) rfl
theorem q1055 : (Jvm.Cond.selects "TraceWarden$Duties" ({ cls := "TraceWarden$Duties", name := "pass", desc := "(LTraceWarden$Row;ILTraceWarden$Row;)V" } : Jvm.MethodName) ({ cls := "TraceWarden$Duties", name := "pass", desc := "(LTraceWarden$Row;ILTraceWarden$Row;)V" } : Jvm.MethodName)) ∈ lw_all := lw_g (lw_at lw_m5 31 rfl) rfl
theorem q1056 : (Jvm.Cond.code ({ cls := "TraceWarden$Duties", name := "pass", desc := "(LTraceWarden$Row;ILTraceWarden$Row;)V" } : Jvm.MethodName) prog_3_method_10_code (8 : Nat) (Option.none : Option Jvm.ClassFile.FieldType)) ∈ lw_all := lw_g (lw_at lw_m5 32 rfl) rfl
theorem q1669 : (Jvm.Cond.castable "TraceWarden$Duties" "java/lang/Object") ∈ lw_tbl := lw_at lw_m7 165 rfl
theorem in_X3 : ∀ w ∈ wsX30, w ∈ lw_all := lw_in wsX30 [200, 202, 204, 206, 208, 210, 212, 214, 216] (by decide +kernel) (by decide +kernel)

/-! TraceWarden$Row -/
def RX4 : String := "TraceWarden$Row"
def TX4 : u_T := fun k => match k with
  | 0 => ("TraceWarden$Row", "sets", "[I", true)
  | _ => ("TraceWarden$Row", "many", "I", false)
def tyX4 : Nat → FieldType := fun k => match k with
  | 0 => .array .int
  | _ => .int
abbrev wsX40 : List Cond := u_ws RX4 TX4 2
theorem nmX4 : ∀ a, a < 2 → ∀ b, b < 2 → a ≠ b → (TX4 a).2.1 ≠ (TX4 b).2.1 := by decide +kernel
theorem tyX4_ok : ∀ k, k < 2 → parseFieldDescriptor (TX4 k).2.2.1 = some (tyX4 k) := by decide +kernel
abbrev cX4_init : ByteArray := prog_9_method_1_code
def yX4_init : MethodName := ⟨RX4, "<init>", "()V"⟩
abbrev cX4_nothing : ByteArray := prog_9_method_2_code
def yX4_nothing : MethodName := ⟨RX4, "nothing", "()V"⟩
abbrev cX4_one : ByteArray := prog_9_method_4_code
def yX4_one : MethodName := ⟨RX4, "one", "(I)V"⟩
abbrev cX4_copy : ByteArray := prog_9_method_5_code
def yX4_copy : MethodName := ⟨RX4, "copy", "(LTraceWarden$Row;)V"⟩
abbrev cX4_impossible : ByteArray := prog_9_method_3_code
def yX4_impossible : MethodName := ⟨RX4, "impossible", "()V"⟩
abbrev cX4_and : ByteArray := prog_9_method_9_code
def yX4_and : MethodName := ⟨RX4, "and", "(LTraceWarden$Row;LTraceWarden$Row;)V"⟩
abbrev cX4_add : ByteArray := prog_9_method_7_code
def yX4_add : MethodName := ⟨RX4, "add", "(I)V"⟩
abbrev cX4_or : ByteArray := prog_9_method_8_code
def yX4_or : MethodName := ⟨RX4, "or", "(LTraceWarden$Row;)V"⟩
abbrev cX4_same : ByteArray := prog_9_method_6_code
def yX4_same : MethodName := ⟨RX4, "same", "(LTraceWarden$Row;)Z"⟩
theorem q71 : (Jvm.Cond.initialized "TraceWarden$Row") ∈ lw_all := lw_g (lw_at lw_m1 7 rfl) rfl
theorem q173 : (Jvm.Cond.instantiable "TraceWarden$Row" (2 : Nat)) ∈ lw_all := lw_g (lw_at lw_m1 109 rfl) rfl
theorem q175 : (Jvm.Cond.instanceMethod ({ cls := "TraceWarden$Row", name := "<init>", desc := "()V" } : Jvm.MethodName)) ∈ lw_all := lw_g (lw_at lw_m1 111 rfl) rfl
theorem q176 : (Jvm.Cond.code ({ cls := "TraceWarden$Row", name := "<init>", desc := "()V" } : Jvm.MethodName) prog_9_method_1_code (1 : Nat) (Option.none : Option Jvm.ClassFile.FieldType)) ∈ lw_all := lw_g (lw_at lw_m1 112 rfl) rfl
theorem q177 : (Jvm.Cond.methodLink "TraceWarden$Row" (3 : Nat) ({ cls := "java/lang/Object", name := "<init>", desc := "()V" } : Jvm.MethodName)) ∈ lw_all := lw_g (lw_at lw_m1 113 rfl) rfl
theorem q178 : (Jvm.Cond.fieldLink "TraceWarden$Row" (9 : Nat) "TraceWarden$Row" "sets" "[I") ∈ lw_all := lw_g (lw_at lw_m1 114 rfl) rfl
theorem q180 : (Jvm.Cond.fieldLink "TraceWarden$Row" (15 : Nat) "TraceWarden$Row" "many" "I") ∈ lw_all := lw_g (lw_at lw_m1 116 rfl) rfl
theorem q183 : (Jvm.Cond.laysFinal "TraceWarden$Row" "TraceWarden$Row" "sets" "[I") ∈ lw_all := lw_g (lw_at lw_m1 119 rfl) rfl
theorem q184 : (Jvm.Cond.soleField "TraceWarden$Row" "sets") ∈ lw_all := lw_g (lw_at lw_m1 120 rfl) rfl
theorem q185 : (Jvm.Cond.lays "TraceWarden$Row" "TraceWarden$Row" "many" "I") ∈ lw_all := lw_g (lw_at lw_m1 121 rfl) rfl
theorem q186 : (Jvm.Cond.soleField "TraceWarden$Row" "many") ∈ lw_all := lw_g (lw_at lw_m1 122 rfl) rfl
theorem q187 : (Jvm.Cond.superclass "TraceWarden$Row" "java/lang/Object") ∈ lw_all := lw_g (lw_at lw_m1 123 rfl) rfl
theorem q868 : (Jvm.Cond.selects "TraceWarden$Row" ({ cls := "java/lang/Object", name := "getClass", desc := "()Ljava/lang/Class;" } : Jvm.MethodName) ({ cls := "java/lang/Object", name := "getClass", desc := "()Ljava/lang/Class;" } : Jvm.MethodName)) ∈ lw_all := lw_g (lw_at lw_m4 84 rfl) rfl
theorem q1007 : (Jvm.Cond.instanceMethod ({ cls := "TraceWarden$Row", name := "nothing", desc := "()V" } : Jvm.MethodName)) ∈ lw_all := lw_g (lw_at lw_m4 223 rfl) rfl
theorem q1008 : (Jvm.Cond.selects "TraceWarden$Row" ({ cls := "TraceWarden$Row", name := "nothing", desc := "()V" } : Jvm.MethodName) ({ cls := "TraceWarden$Row", name := "nothing", desc := "()V" } : Jvm.MethodName)) ∈ lw_all := lw_g (lw_at lw_m4 224 rfl) rfl
theorem q1009 : (Jvm.Cond.code ({ cls := "TraceWarden$Row", name := "nothing", desc := "()V" } : Jvm.MethodName) prog_9_method_2_code (1 : Nat) (Option.none : Option Jvm.ClassFile.FieldType)) ∈ lw_all := lw_g (lw_at lw_m4 225 rfl) rfl
theorem q1011 : (Jvm.Cond.instanceMethod ({ cls := "TraceWarden$Row", name := "one", desc := "(I)V" } : Jvm.MethodName)) ∈ lw_all := lw_g (lw_at lw_m4 227 rfl) rfl
theorem q1012 : (Jvm.Cond.selects "TraceWarden$Row" ({ cls := "TraceWarden$Row", name := "one", desc := "(I)V" } : Jvm.MethodName) ({ cls := "TraceWarden$Row", name := "one", desc := "(I)V" } : Jvm.MethodName)) ∈ lw_all := lw_g (lw_at lw_m4 228 rfl) rfl
theorem q1013 : (Jvm.Cond.code ({ cls := "TraceWarden$Row", name := "one", desc := "(I)V" } : Jvm.MethodName) prog_9_method_4_code (2 : Nat) (Option.none : Option Jvm.ClassFile.FieldType)) ∈ lw_all := lw_g (lw_at lw_m4 229 rfl) rfl
theorem q1022 : (Jvm.Cond.instanceMethod ({ cls := "TraceWarden$Row", name := "copy", desc := "(LTraceWarden$Row;)V" } : Jvm.MethodName)) ∈ lw_all := lw_g (lw_at lw_m4 238 rfl) rfl
theorem q1023 : (Jvm.Cond.selects "TraceWarden$Row" ({ cls := "TraceWarden$Row", name := "copy", desc := "(LTraceWarden$Row;)V" } : Jvm.MethodName) ({ cls := "TraceWarden$Row", name := "copy", desc := "(LTraceWarden$Row;)V" } : Jvm.MethodName)) ∈ lw_all := lw_g (lw_at lw_m4 239 rfl) rfl
theorem q1024 : (Jvm.Cond.code ({ cls := "TraceWarden$Row", name := "copy", desc := "(LTraceWarden$Row;)V" } : Jvm.MethodName) prog_9_method_5_code (2 : Nat) (Option.none : Option Jvm.ClassFile.FieldType)) ∈ lw_all := lw_g (lw_at lw_m5 0 rfl) rfl
theorem q1025 : (Jvm.Cond.methodLink "TraceWarden$Row" (19 : Nat) ({ cls := "java/lang/System", name := "arraycopy", desc := "(Ljava/lang/Object;ILjava/lang/Object;II)V" } : Jvm.MethodName)) ∈ lw_all := lw_g (lw_at lw_m5 1 rfl) rfl
theorem q1031 : (Jvm.Cond.instanceMethod ({ cls := "TraceWarden$Row", name := "impossible", desc := "()V" } : Jvm.MethodName)) ∈ lw_all := lw_g (lw_at lw_m5 7 rfl) rfl
theorem q1032 : (Jvm.Cond.selects "TraceWarden$Row" ({ cls := "TraceWarden$Row", name := "impossible", desc := "()V" } : Jvm.MethodName) ({ cls := "TraceWarden$Row", name := "impossible", desc := "()V" } : Jvm.MethodName)) ∈ lw_all := lw_g (lw_at lw_m5 8 rfl) rfl
theorem q1033 : (Jvm.Cond.code ({ cls := "TraceWarden$Row", name := "impossible", desc := "()V" } : Jvm.MethodName) prog_9_method_3_code (1 : Nat) (Option.none : Option Jvm.ClassFile.FieldType)) ∈ lw_all := lw_g (lw_at lw_m5 9 rfl) rfl
theorem q1036 : (Jvm.Cond.instanceMethod ({ cls := "TraceWarden$Row", name := "and", desc := "(LTraceWarden$Row;LTraceWarden$Row;)V" } : Jvm.MethodName)) ∈ lw_all := lw_g (lw_at lw_m5 12 rfl) rfl
theorem q1037 : (Jvm.Cond.selects "TraceWarden$Row" ({ cls := "TraceWarden$Row", name := "and", desc := "(LTraceWarden$Row;LTraceWarden$Row;)V" } : Jvm.MethodName) ({ cls := "TraceWarden$Row", name := "and", desc := "(LTraceWarden$Row;LTraceWarden$Row;)V" } : Jvm.MethodName)) ∈ lw_all := lw_g (lw_at lw_m5 13 rfl) rfl
theorem q1038 : (Jvm.Cond.code ({ cls := "TraceWarden$Row", name := "and", desc := "(LTraceWarden$Row;LTraceWarden$Row;)V" } : Jvm.MethodName) prog_9_method_9_code (5 : Nat) (Option.none : Option Jvm.ClassFile.FieldType)) ∈ lw_all := lw_g (lw_at lw_m5 14 rfl) rfl
theorem q1039 : (Jvm.Cond.methodLink "TraceWarden$Row" (25 : Nat) ({ cls := "TraceWarden$Row", name := "add", desc := "(I)V" } : Jvm.MethodName)) ∈ lw_all := lw_g (lw_at lw_m5 15 rfl) rfl
theorem q1040 : (Jvm.Cond.instanceMethod ({ cls := "TraceWarden$Row", name := "add", desc := "(I)V" } : Jvm.MethodName)) ∈ lw_all := lw_g (lw_at lw_m5 16 rfl) rfl
theorem q1041 : (Jvm.Cond.selects "TraceWarden$Row" ({ cls := "TraceWarden$Row", name := "add", desc := "(I)V" } : Jvm.MethodName) ({ cls := "TraceWarden$Row", name := "add", desc := "(I)V" } : Jvm.MethodName)) ∈ lw_all := lw_g (lw_at lw_m5 17 rfl) rfl
theorem q1042 : (Jvm.Cond.code ({ cls := "TraceWarden$Row", name := "add", desc := "(I)V" } : Jvm.MethodName) prog_9_method_7_code (5 : Nat) (Option.none : Option Jvm.ClassFile.FieldType)) ∈ lw_all := lw_g (lw_at lw_m5 18 rfl) rfl
theorem q1044 : (Jvm.Cond.instanceMethod ({ cls := "TraceWarden$Row", name := "or", desc := "(LTraceWarden$Row;)V" } : Jvm.MethodName)) ∈ lw_all := lw_g (lw_at lw_m5 20 rfl) rfl
theorem q1045 : (Jvm.Cond.selects "TraceWarden$Row" ({ cls := "TraceWarden$Row", name := "or", desc := "(LTraceWarden$Row;)V" } : Jvm.MethodName) ({ cls := "TraceWarden$Row", name := "or", desc := "(LTraceWarden$Row;)V" } : Jvm.MethodName)) ∈ lw_all := lw_g (lw_at lw_m5 21 rfl) rfl
theorem q1046 : (Jvm.Cond.code ({ cls := "TraceWarden$Row", name := "or", desc := "(LTraceWarden$Row;)V" } : Jvm.MethodName) prog_9_method_8_code (3 : Nat) (Option.none : Option Jvm.ClassFile.FieldType)) ∈ lw_all := lw_g (lw_at lw_m5 22 rfl) rfl
theorem q1058 : (Jvm.Cond.instanceMethod ({ cls := "TraceWarden$Row", name := "same", desc := "(LTraceWarden$Row;)Z" } : Jvm.MethodName)) ∈ lw_all := lw_g (lw_at lw_m5 34 rfl) rfl
theorem q1059 : (Jvm.Cond.selects "TraceWarden$Row" ({ cls := "TraceWarden$Row", name := "same", desc := "(LTraceWarden$Row;)Z" } : Jvm.MethodName) ({ cls := "TraceWarden$Row", name := "same", desc := "(LTraceWarden$Row;)Z" } : Jvm.MethodName)) ∈ lw_all := lw_g (lw_at lw_m5 35 rfl) rfl
theorem q1060 : (Jvm.Cond.code ({ cls := "TraceWarden$Row", name := "same", desc := "(LTraceWarden$Row;)Z" } : Jvm.MethodName) prog_9_method_6_code (4 : Nat) (Option.some Jvm.ClassFile.FieldType.boolean)) ∈ lw_all := lw_g (lw_at lw_m5 36 rfl) rfl
theorem q1660 : (Jvm.Cond.castable "TraceWarden$Row" "java/lang/Object") ∈ lw_tbl := lw_at lw_m7 156 rfl
theorem in_X4 : ∀ w ∈ wsX40, w ∈ lw_all := lw_in wsX40 [183, 185] (by decide +kernel) (by decide +kernel)

/-! TraceWarden$Monitor -/
def RX5 : String := "TraceWarden$Monitor"
def TX5 : u_T := fun k => match k with
  | 0 => ("TraceWarden$Monitor", "states", "[LTraceWarden$State;", true)
  | _ => ("TraceWarden$Monitor", "many", "I", false)
def tyX5 : Nat → FieldType := fun k => match k with
  | 0 => .array (.object "TraceWarden$State")
  | _ => .int
abbrev wsX50 : List Cond := u_ws RX5 TX5 2
theorem nmX5 : ∀ a, a < 2 → ∀ b, b < 2 → a ≠ b → (TX5 a).2.1 ≠ (TX5 b).2.1 := by decide +kernel
theorem tyX5_ok : ∀ k, k < 2 → parseFieldDescriptor (TX5 k).2.2.1 = some (tyX5 k) := by decide +kernel
abbrev cX5_init : ByteArray := prog_6_method_1_code
def yX5_init : MethodName := ⟨RX5, "<init>", "()V"⟩
abbrev cX5_first : ByteArray := prog_6_method_2_code
def yX5_first : MethodName := ⟨RX5, "first", "()LTraceWarden$State;"⟩
theorem q72 : (Jvm.Cond.initialized "TraceWarden$Monitor") ∈ lw_all := lw_g (lw_at lw_m1 8 rfl) rfl
theorem q222 : (Jvm.Cond.instantiable "TraceWarden$Monitor" (2 : Nat)) ∈ lw_all := lw_g (lw_at lw_m1 158 rfl) rfl
theorem q224 : (Jvm.Cond.instanceMethod ({ cls := "TraceWarden$Monitor", name := "<init>", desc := "()V" } : Jvm.MethodName)) ∈ lw_all := lw_g (lw_at lw_m1 160 rfl) rfl
theorem q225 : (Jvm.Cond.code ({ cls := "TraceWarden$Monitor", name := "<init>", desc := "()V" } : Jvm.MethodName) prog_6_method_1_code (2 : Nat) (Option.none : Option Jvm.ClassFile.FieldType)) ∈ lw_all := lw_g (lw_at lw_m1 161 rfl) rfl
theorem q226 : (Jvm.Cond.methodLink "TraceWarden$Monitor" (3 : Nat) ({ cls := "java/lang/Object", name := "<init>", desc := "()V" } : Jvm.MethodName)) ∈ lw_all := lw_g (lw_at lw_m1 162 rfl) rfl
theorem q227 : (Jvm.Cond.classLink "TraceWarden$Monitor" (9 : Nat) "TraceWarden$State") ∈ lw_all := lw_g (lw_at lw_m1 163 rfl) rfl
theorem q230 : (Jvm.Cond.methodLink "TraceWarden$Monitor" (17 : Nat) ({ cls := "TraceWarden$State", name := "<init>", desc := "(I)V" } : Jvm.MethodName)) ∈ lw_all := lw_g (lw_at lw_m1 166 rfl) rfl
theorem q246 : (Jvm.Cond.fieldLink "TraceWarden$Monitor" (11 : Nat) "TraceWarden$Monitor" "states" "[LTraceWarden$State;") ∈ lw_all := lw_g (lw_at lw_m1 182 rfl) rfl
theorem q249 : (Jvm.Cond.fieldLink "TraceWarden$Monitor" (20 : Nat) "TraceWarden$Monitor" "many" "I") ∈ lw_all := lw_g (lw_at lw_m1 185 rfl) rfl
theorem q252 : (Jvm.Cond.laysFinal "TraceWarden$Monitor" "TraceWarden$Monitor" "states" "[LTraceWarden$State;") ∈ lw_all := lw_g (lw_at lw_m1 188 rfl) rfl
theorem q253 : (Jvm.Cond.soleField "TraceWarden$Monitor" "states") ∈ lw_all := lw_g (lw_at lw_m1 189 rfl) rfl
theorem q254 : (Jvm.Cond.lays "TraceWarden$Monitor" "TraceWarden$Monitor" "many" "I") ∈ lw_all := lw_g (lw_at lw_m1 190 rfl) rfl
theorem q255 : (Jvm.Cond.soleField "TraceWarden$Monitor" "many") ∈ lw_all := lw_g (lw_at lw_m1 191 rfl) rfl
theorem q256 : (Jvm.Cond.superclass "TraceWarden$Monitor" "java/lang/Object") ∈ lw_all := lw_g (lw_at lw_m1 192 rfl) rfl
theorem q865 : (Jvm.Cond.selects "TraceWarden$Monitor" ({ cls := "java/lang/Object", name := "getClass", desc := "()Ljava/lang/Class;" } : Jvm.MethodName) ({ cls := "java/lang/Object", name := "getClass", desc := "()Ljava/lang/Class;" } : Jvm.MethodName)) ∈ lw_all := lw_g (lw_at lw_m4 81 rfl) rfl
theorem q1216 : (Jvm.Cond.instanceMethod ({ cls := "TraceWarden$Monitor", name := "first", desc := "()LTraceWarden$State;" } : Jvm.MethodName)) ∈ lw_all := lw_g (lw_at lw_m5 192 rfl) rfl
theorem q1217 : (Jvm.Cond.selects "TraceWarden$Monitor" ({ cls := "TraceWarden$Monitor", name := "first", desc := "()LTraceWarden$State;" } : Jvm.MethodName) ({ cls := "TraceWarden$Monitor", name := "first", desc := "()LTraceWarden$State;" } : Jvm.MethodName)) ∈ lw_all := lw_g (lw_at lw_m5 193 rfl) rfl
theorem q1218 : (Jvm.Cond.code ({ cls := "TraceWarden$Monitor", name := "first", desc := "()LTraceWarden$State;" } : Jvm.MethodName) prog_6_method_2_code (1 : Nat) (Option.some (Jvm.ClassFile.FieldType.object "TraceWarden$State"))) ∈ lw_all := lw_g (lw_at lw_m5 194 rfl) rfl
theorem q1670 : (Jvm.Cond.castable "TraceWarden$Monitor" "java/lang/Object") ∈ lw_tbl := lw_at lw_m7 166 rfl
theorem in_X5 : ∀ w ∈ wsX50, w ∈ lw_all := lw_in wsX50 [252, 254] (by decide +kernel) (by decide +kernel)

/-! TraceWarden$State -/
def RX6 : String := "TraceWarden$State"
def TX6 : u_T := fun k => match k with
  | 0 => ("TraceWarden$State", "number", "I", true)
  | _ => ("TraceWarden$State", "next", "[LTraceWarden$State;", true)
def tyX6 : Nat → FieldType := fun k => match k with
  | 0 => .int
  | _ => .array (.object "TraceWarden$State")
abbrev wsX60 : List Cond := u_ws RX6 TX6 2
theorem nmX6 : ∀ a, a < 2 → ∀ b, b < 2 → a ≠ b → (TX6 a).2.1 ≠ (TX6 b).2.1 := by decide +kernel
theorem tyX6_ok : ∀ k, k < 2 → parseFieldDescriptor (TX6 k).2.2.1 = some (tyX6 k) := by decide +kernel
abbrev cX6_init : ByteArray := prog_10_method_1_code
def yX6_init : MethodName := ⟨RX6, "<init>", "(I)V"⟩
theorem q73 : (Jvm.Cond.initialized "TraceWarden$State") ∈ lw_all := lw_g (lw_at lw_m1 9 rfl) rfl
theorem q229 : (Jvm.Cond.instantiable "TraceWarden$State" (2 : Nat)) ∈ lw_all := lw_g (lw_at lw_m1 165 rfl) rfl
theorem q231 : (Jvm.Cond.instanceMethod ({ cls := "TraceWarden$State", name := "<init>", desc := "(I)V" } : Jvm.MethodName)) ∈ lw_all := lw_g (lw_at lw_m1 167 rfl) rfl
theorem q232 : (Jvm.Cond.code ({ cls := "TraceWarden$State", name := "<init>", desc := "(I)V" } : Jvm.MethodName) prog_10_method_1_code (2 : Nat) (Option.none : Option Jvm.ClassFile.FieldType)) ∈ lw_all := lw_g (lw_at lw_m1 168 rfl) rfl
theorem q233 : (Jvm.Cond.methodLink "TraceWarden$State" (3 : Nat) ({ cls := "java/lang/Object", name := "<init>", desc := "()V" } : Jvm.MethodName)) ∈ lw_all := lw_g (lw_at lw_m1 169 rfl) rfl
theorem q234 : (Jvm.Cond.classLink "TraceWarden$State" (9 : Nat) "TraceWarden$State") ∈ lw_all := lw_g (lw_at lw_m1 170 rfl) rfl
theorem q235 : (Jvm.Cond.fieldLink "TraceWarden$State" (15 : Nat) "TraceWarden$State" "number" "I") ∈ lw_all := lw_g (lw_at lw_m1 171 rfl) rfl
theorem q238 : (Jvm.Cond.fieldLink "TraceWarden$State" (11 : Nat) "TraceWarden$State" "next" "[LTraceWarden$State;") ∈ lw_all := lw_g (lw_at lw_m1 174 rfl) rfl
theorem q241 : (Jvm.Cond.laysFinal "TraceWarden$State" "TraceWarden$State" "number" "I") ∈ lw_all := lw_g (lw_at lw_m1 177 rfl) rfl
theorem q242 : (Jvm.Cond.soleField "TraceWarden$State" "number") ∈ lw_all := lw_g (lw_at lw_m1 178 rfl) rfl
theorem q243 : (Jvm.Cond.laysFinal "TraceWarden$State" "TraceWarden$State" "next" "[LTraceWarden$State;") ∈ lw_all := lw_g (lw_at lw_m1 179 rfl) rfl
theorem q244 : (Jvm.Cond.soleField "TraceWarden$State" "next") ∈ lw_all := lw_g (lw_at lw_m1 180 rfl) rfl
theorem q245 : (Jvm.Cond.superclass "TraceWarden$State" "java/lang/Object") ∈ lw_all := lw_g (lw_at lw_m1 181 rfl) rfl
theorem q869 : (Jvm.Cond.selects "TraceWarden$State" ({ cls := "java/lang/Object", name := "getClass", desc := "()Ljava/lang/Class;" } : Jvm.MethodName) ({ cls := "java/lang/Object", name := "getClass", desc := "()Ljava/lang/Class;" } : Jvm.MethodName)) ∈ lw_all := lw_g (lw_at lw_m4 85 rfl) rfl
theorem q1661 : (Jvm.Cond.castable "TraceWarden$State" "java/lang/Object") ∈ lw_tbl := lw_at lw_m7 157 rfl
theorem in_X6 : ∀ w ∈ wsX60, w ∈ lw_all := lw_in wsX60 [241, 243] (by decide +kernel) (by decide +kernel)

/-! TraceWarden$Circuit -/
def RX7 : String := "TraceWarden$Circuit"
def TX7 : u_T := fun k => match k with
  | 0 => ("TraceWarden$Circuit", "off", "LTraceWarden$Gate;", true)
  | 1 => ("TraceWarden$Circuit", "on", "LTraceWarden$Gate;", true)
  | 2 => ("TraceWarden$Circuit", "gates", "Ljava/util/ArrayList;", true)
  | 3 => ("TraceWarden$Circuit", "used", "I", false)
  | 4 => ("TraceWarden$Circuit", "outputs", "[LTraceWarden$Gate;", true)
  | 5 => ("TraceWarden$Circuit", "bits", "I", false)
  | 6 => ("TraceWarden$Circuit", "made", "Z", false)
  | _ => ("TraceWarden$Circuit", "monitor", "LTraceWarden$Monitor;", false)
def tyX7 : Nat → FieldType := fun k => match k with
  | 0 => .object "TraceWarden$Gate"
  | 1 => .object "TraceWarden$Gate"
  | 2 => .object "java/util/ArrayList"
  | 3 => .int
  | 4 => .array (.object "TraceWarden$Gate")
  | 5 => .int
  | 6 => .boolean
  | _ => .object "TraceWarden$Monitor"
abbrev wsX70 : List Cond := u_ws RX7 TX7 8
theorem nmX7 : ∀ a, a < 8 → ∀ b, b < 8 → a ≠ b → (TX7 a).2.1 ≠ (TX7 b).2.1 := by decide +kernel
theorem tyX7_ok : ∀ k, k < 8 → parseFieldDescriptor (TX7 k).2.2.1 = some (tyX7 k) := by decide +kernel
abbrev cX7_init : ByteArray := prog_2_method_1_code
def yX7_init : MethodName := ⟨RX7, "<init>", "()V"⟩
abbrev cX7_plan : ByteArray := prog_2_method_2_code
def yX7_plan : MethodName := ⟨RX7, "plan", "(LTraceWarden$Monitor;)V"⟩
abbrev cX7_size : ByteArray := prog_2_method_7_code
def yX7_size : MethodName := ⟨RX7, "size", "()I"⟩
abbrev cX7_make : ByteArray := prog_2_method_3_code
def yX7_make : MethodName := ⟨RX7, "make", "()V"⟩
abbrev cX7_grow : ByteArray := prog_2_method_4_code
def yX7_grow : MethodName := ⟨RX7, "grow", "(LTraceWarden$Circuit;IIII)LTraceWarden$Gate;"⟩
abbrev cX7_wanted : ByteArray := prog_2_method_5_code
def yX7_wanted : MethodName := ⟨RX7, "wanted", "(III)Z"⟩
abbrev cX7_gate : ByteArray := prog_2_method_6_code
def yX7_gate : MethodName := ⟨RX7, "gate", "(ILTraceWarden$Gate;LTraceWarden$Gate;)LTraceWarden$Gate;"⟩
abbrev cX7_value : ByteArray := prog_2_method_8_code
def yX7_value : MethodName := ⟨RX7, "value", "(III)Z"⟩
theorem q74 : (Jvm.Cond.initialized "TraceWarden$Circuit") ∈ lw_all := lw_g (lw_at lw_m1 10 rfl) rfl
theorem q236 : (Jvm.Cond.fieldLinkNest "TraceWarden$Circuit" (74 : Nat) "TraceWarden$State" "number" "I" "TraceWarden") ∈ lw_tbl := lw_at lw_m1 172 rfl
theorem q239 : (Jvm.Cond.fieldLinkNest "TraceWarden$Circuit" (69 : Nat) "TraceWarden$State" "next" "[LTraceWarden$State;" "TraceWarden") ∈ lw_tbl := lw_at lw_m1 175 rfl
theorem q247 : (Jvm.Cond.fieldLinkNest "TraceWarden$Circuit" (65 : Nat) "TraceWarden$Monitor" "states" "[LTraceWarden$State;" "TraceWarden") ∈ lw_tbl := lw_at lw_m1 183 rfl
theorem q250 : (Jvm.Cond.fieldLinkNest "TraceWarden$Circuit" (45 : Nat) "TraceWarden$Monitor" "many" "I" "TraceWarden") ∈ lw_tbl := lw_at lw_m1 186 rfl
theorem q258 : (Jvm.Cond.instantiable "TraceWarden$Circuit" (8 : Nat)) ∈ lw_all := lw_g (lw_at lw_m1 194 rfl) rfl
theorem q260 : (Jvm.Cond.instanceMethod ({ cls := "TraceWarden$Circuit", name := "<init>", desc := "()V" } : Jvm.MethodName)) ∈ lw_all := lw_g (lw_at lw_m1 196 rfl) rfl
theorem q261 : (Jvm.Cond.code ({ cls := "TraceWarden$Circuit", name := "<init>", desc := "()V" } : Jvm.MethodName) prog_2_method_1_code (1 : Nat) (Option.none : Option Jvm.ClassFile.FieldType)) ∈ lw_all := lw_g (lw_at lw_m1 197 rfl) rfl
theorem q262 : (Jvm.Cond.methodLink "TraceWarden$Circuit" (1 : Nat) ({ cls := "java/lang/Object", name := "<init>", desc := "()V" } : Jvm.MethodName)) ∈ lw_all := lw_g (lw_at lw_m1 198 rfl) rfl
theorem q263 : (Jvm.Cond.classLink "TraceWarden$Circuit" (7 : Nat) "TraceWarden$Gate") ∈ lw_all := lw_g (lw_at lw_m1 199 rfl) rfl
theorem q265 : (Jvm.Cond.methodLinkNest "TraceWarden$Circuit" (9 : Nat) ({ cls := "TraceWarden$Gate", name := "<init>", desc := "()V" } : Jvm.MethodName) "TraceWarden") ∈ lw_tbl := lw_at lw_m1 201 rfl
theorem q270 : (Jvm.Cond.fieldLinkNest "TraceWarden$Circuit" (81 : Nat) "TraceWarden$Gate" "input" "I" "TraceWarden") ∈ lw_tbl := lw_at lw_m1 206 rfl
theorem q272 : (Jvm.Cond.fieldLinkNest "TraceWarden$Circuit" (84 : Nat) "TraceWarden$Gate" "low" "LTraceWarden$Gate;" "TraceWarden") ∈ lw_tbl := lw_at lw_m1 208 rfl
theorem q274 : (Jvm.Cond.fieldLinkNest "TraceWarden$Circuit" (87 : Nat) "TraceWarden$Gate" "high" "LTraceWarden$Gate;" "TraceWarden") ∈ lw_tbl := lw_at lw_m1 210 rfl
theorem q275 : (Jvm.Cond.fieldLinkNest "TraceWarden$Circuit" (30 : Nat) "TraceWarden$Gate" "value" "Z" "TraceWarden") ∈ lw_tbl := lw_at lw_m1 211 rfl
theorem q285 : (Jvm.Cond.classLink "TraceWarden$Circuit" (19 : Nat) "java/util/ArrayList") ∈ lw_all := lw_g (lw_at lw_m1 221 rfl) rfl
theorem q286 : (Jvm.Cond.methodLink "TraceWarden$Circuit" (21 : Nat) ({ cls := "java/util/ArrayList", name := "<init>", desc := "()V" } : Jvm.MethodName)) ∈ lw_all := lw_g (lw_at lw_m1 222 rfl) rfl
theorem q288 : (Jvm.Cond.fieldLink "TraceWarden$Circuit" (10 : Nat) "TraceWarden$Circuit" "off" "LTraceWarden$Gate;") ∈ lw_all := lw_g (lw_at lw_m1 224 rfl) rfl
theorem q289 : (Jvm.Cond.fieldLink "TraceWarden$Circuit" (16 : Nat) "TraceWarden$Circuit" "on" "LTraceWarden$Gate;") ∈ lw_all := lw_g (lw_at lw_m1 225 rfl) rfl
theorem q290 : (Jvm.Cond.fieldLink "TraceWarden$Circuit" (22 : Nat) "TraceWarden$Circuit" "gates" "Ljava/util/ArrayList;") ∈ lw_all := lw_g (lw_at lw_m1 226 rfl) rfl
theorem q291 : (Jvm.Cond.fieldLink "TraceWarden$Circuit" (50 : Nat) "TraceWarden$Circuit" "used" "I") ∈ lw_all := lw_g (lw_at lw_m1 227 rfl) rfl
theorem q292 : (Jvm.Cond.fieldLink "TraceWarden$Circuit" (26 : Nat) "TraceWarden$Circuit" "outputs" "[LTraceWarden$Gate;") ∈ lw_all := lw_g (lw_at lw_m1 228 rfl) rfl
theorem q293 : (Jvm.Cond.fieldLink "TraceWarden$Circuit" (41 : Nat) "TraceWarden$Circuit" "bits" "I") ∈ lw_all := lw_g (lw_at lw_m1 229 rfl) rfl
theorem q295 : (Jvm.Cond.fieldLink "TraceWarden$Circuit" (38 : Nat) "TraceWarden$Circuit" "made" "Z") ∈ lw_all := lw_g (lw_at lw_m1 231 rfl) rfl
theorem q296 : (Jvm.Cond.fieldLink "TraceWarden$Circuit" (34 : Nat) "TraceWarden$Circuit" "monitor" "LTraceWarden$Monitor;") ∈ lw_all := lw_g (lw_at lw_m1 232 rfl) rfl
theorem q297 : (Jvm.Cond.laysFinal "TraceWarden$Circuit" "TraceWarden$Circuit" "off" "LTraceWarden$Gate;") ∈ lw_all := lw_g (lw_at lw_m1 233 rfl) rfl
theorem q298 : (Jvm.Cond.soleField "TraceWarden$Circuit" "off") ∈ lw_all := lw_g (lw_at lw_m1 234 rfl) rfl
theorem q299 : (Jvm.Cond.laysFinal "TraceWarden$Circuit" "TraceWarden$Circuit" "on" "LTraceWarden$Gate;") ∈ lw_all := lw_g (lw_at lw_m1 235 rfl) rfl
theorem q300 : (Jvm.Cond.soleField "TraceWarden$Circuit" "on") ∈ lw_all := lw_g (lw_at lw_m1 236 rfl) rfl
theorem q301 : (Jvm.Cond.laysFinal "TraceWarden$Circuit" "TraceWarden$Circuit" "gates" "Ljava/util/ArrayList;") ∈ lw_all := lw_g (lw_at lw_m1 237 rfl) rfl
theorem q302 : (Jvm.Cond.soleField "TraceWarden$Circuit" "gates") ∈ lw_all := lw_g (lw_at lw_m1 238 rfl) rfl
theorem q303 : (Jvm.Cond.lays "TraceWarden$Circuit" "TraceWarden$Circuit" "used" "I") ∈ lw_all := lw_g (lw_at lw_m1 239 rfl) rfl
theorem q304 : (Jvm.Cond.soleField "TraceWarden$Circuit" "used") ∈ lw_all := lw_g (lw_at lw_m2 0 rfl) rfl
theorem q305 : (Jvm.Cond.laysFinal "TraceWarden$Circuit" "TraceWarden$Circuit" "outputs" "[LTraceWarden$Gate;") ∈ lw_all := lw_g (lw_at lw_m2 1 rfl) rfl
theorem q306 : (Jvm.Cond.soleField "TraceWarden$Circuit" "outputs") ∈ lw_all := lw_g (lw_at lw_m2 2 rfl) rfl
theorem q307 : (Jvm.Cond.lays "TraceWarden$Circuit" "TraceWarden$Circuit" "bits" "I") ∈ lw_all := lw_g (lw_at lw_m2 3 rfl) rfl
theorem q308 : (Jvm.Cond.soleField "TraceWarden$Circuit" "bits") ∈ lw_all := lw_g (lw_at lw_m2 4 rfl) rfl
theorem q309 : (Jvm.Cond.lays "TraceWarden$Circuit" "TraceWarden$Circuit" "made" "Z") ∈ lw_all := lw_g (lw_at lw_m2 5 rfl) rfl
theorem q310 : (Jvm.Cond.soleField "TraceWarden$Circuit" "made") ∈ lw_all := lw_g (lw_at lw_m2 6 rfl) rfl
theorem q311 : (Jvm.Cond.lays "TraceWarden$Circuit" "TraceWarden$Circuit" "monitor" "LTraceWarden$Monitor;") ∈ lw_all := lw_g (lw_at lw_m2 7 rfl) rfl
theorem q312 : (Jvm.Cond.soleField "TraceWarden$Circuit" "monitor") ∈ lw_all := lw_g (lw_at lw_m2 8 rfl) rfl
theorem q313 : (Jvm.Cond.superclass "TraceWarden$Circuit" "java/lang/Object") ∈ lw_all := lw_g (lw_at lw_m2 9 rfl) rfl
theorem q861 : (Jvm.Cond.selects "TraceWarden$Circuit" ({ cls := "java/lang/Object", name := "getClass", desc := "()Ljava/lang/Class;" } : Jvm.MethodName) ({ cls := "java/lang/Object", name := "getClass", desc := "()Ljava/lang/Class;" } : Jvm.MethodName)) ∈ lw_all := lw_g (lw_at lw_m4 77 rfl) rfl
theorem q1081 : (Jvm.Cond.instanceMethod ({ cls := "TraceWarden$Circuit", name := "plan", desc := "(LTraceWarden$Monitor;)V" } : Jvm.MethodName)) ∈ lw_all := lw_g (lw_at lw_m5 57 rfl) rfl
theorem q1082 : (Jvm.Cond.selects "TraceWarden$Circuit" ({ cls := "TraceWarden$Circuit", name := "plan", desc := "(LTraceWarden$Monitor;)V" } : Jvm.MethodName) ({ cls := "TraceWarden$Circuit", name := "plan", desc := "(LTraceWarden$Monitor;)V" } : Jvm.MethodName)) ∈ lw_all := lw_g (lw_at lw_m5 58 rfl) rfl
theorem q1083 : (Jvm.Cond.code ({ cls := "TraceWarden$Circuit", name := "plan", desc := "(LTraceWarden$Monitor;)V" } : Jvm.MethodName) prog_2_method_2_code (2 : Nat) (Option.none : Option Jvm.ClassFile.FieldType)) ∈ lw_all := lw_g (lw_at lw_m5 59 rfl) rfl
theorem q1112 : (Jvm.Cond.instanceMethod ({ cls := "TraceWarden$Circuit", name := "size", desc := "()I" } : Jvm.MethodName)) ∈ lw_all := lw_g (lw_at lw_m5 88 rfl) rfl
theorem q1113 : (Jvm.Cond.selects "TraceWarden$Circuit" ({ cls := "TraceWarden$Circuit", name := "size", desc := "()I" } : Jvm.MethodName) ({ cls := "TraceWarden$Circuit", name := "size", desc := "()I" } : Jvm.MethodName)) ∈ lw_all := lw_g (lw_at lw_m5 89 rfl) rfl
theorem q1114 : (Jvm.Cond.code ({ cls := "TraceWarden$Circuit", name := "size", desc := "()I" } : Jvm.MethodName) prog_2_method_7_code (1 : Nat) (Option.some Jvm.ClassFile.FieldType.int)) ∈ lw_all := lw_g (lw_at lw_m5 90 rfl) rfl
theorem q1115 : (Jvm.Cond.methodLink "TraceWarden$Circuit" (101 : Nat) ({ cls := "TraceWarden$Circuit", name := "make", desc := "()V" } : Jvm.MethodName)) ∈ lw_all := lw_g (lw_at lw_m5 91 rfl) rfl
theorem q1116 : (Jvm.Cond.privateMethod ({ cls := "TraceWarden$Circuit", name := "make", desc := "()V" } : Jvm.MethodName)) ∈ lw_tbl := lw_at lw_m5 92 rfl
theorem q1117 : (Jvm.Cond.instanceMethod ({ cls := "TraceWarden$Circuit", name := "make", desc := "()V" } : Jvm.MethodName)) ∈ lw_all := lw_g (lw_at lw_m5 93 rfl) rfl
theorem q1118 : (Jvm.Cond.code ({ cls := "TraceWarden$Circuit", name := "make", desc := "()V" } : Jvm.MethodName) prog_2_method_3_code (2 : Nat) (Option.none : Option Jvm.ClassFile.FieldType)) ∈ lw_all := lw_g (lw_at lw_m5 94 rfl) rfl
theorem q1119 : (Jvm.Cond.methodLink "TraceWarden$Circuit" (53 : Nat) ({ cls := "TraceWarden$Circuit", name := "grow", desc := "(LTraceWarden$Circuit;IIII)LTraceWarden$Gate;" } : Jvm.MethodName)) ∈ lw_all := lw_g (lw_at lw_m5 95 rfl) rfl
theorem q1120 : (Jvm.Cond.static ({ cls := "TraceWarden$Circuit", name := "grow", desc := "(LTraceWarden$Circuit;IIII)LTraceWarden$Gate;" } : Jvm.MethodName)) ∈ lw_all := lw_g (lw_at lw_m5 96 rfl) rfl
theorem q1121 : (Jvm.Cond.code ({ cls := "TraceWarden$Circuit", name := "grow", desc := "(LTraceWarden$Circuit;IIII)LTraceWarden$Gate;" } : Jvm.MethodName) prog_2_method_4_code (8 : Nat) (Option.some (Jvm.ClassFile.FieldType.object "TraceWarden$Gate"))) ∈ lw_all := lw_g (lw_at lw_m5 97 rfl) rfl
theorem q1122 : (Jvm.Cond.methodLink "TraceWarden$Circuit" (57 : Nat) ({ cls := "TraceWarden$Circuit", name := "wanted", desc := "(III)Z" } : Jvm.MethodName)) ∈ lw_all := lw_g (lw_at lw_m5 98 rfl) rfl
theorem q1123 : (Jvm.Cond.privateMethod ({ cls := "TraceWarden$Circuit", name := "wanted", desc := "(III)Z" } : Jvm.MethodName)) ∈ lw_tbl := lw_at lw_m5 99 rfl
theorem q1124 : (Jvm.Cond.instanceMethod ({ cls := "TraceWarden$Circuit", name := "wanted", desc := "(III)Z" } : Jvm.MethodName)) ∈ lw_all := lw_g (lw_at lw_m5 100 rfl) rfl
theorem q1125 : (Jvm.Cond.code ({ cls := "TraceWarden$Circuit", name := "wanted", desc := "(III)Z" } : Jvm.MethodName) prog_2_method_5_code (6 : Nat) (Option.some Jvm.ClassFile.FieldType.boolean)) ∈ lw_all := lw_g (lw_at lw_m5 101 rfl) rfl
theorem q1126 : (Jvm.Cond.methodLink "TraceWarden$Circuit" (61 : Nat) ({ cls := "TraceWarden$Circuit", name := "gate", desc := "(ILTraceWarden$Gate;LTraceWarden$Gate;)LTraceWarden$Gate;" } : Jvm.MethodName)) ∈ lw_all := lw_g (lw_at lw_m5 102 rfl) rfl
theorem q1127 : (Jvm.Cond.privateMethod ({ cls := "TraceWarden$Circuit", name := "gate", desc := "(ILTraceWarden$Gate;LTraceWarden$Gate;)LTraceWarden$Gate;" } : Jvm.MethodName)) ∈ lw_tbl := lw_at lw_m5 103 rfl
theorem q1128 : (Jvm.Cond.instanceMethod ({ cls := "TraceWarden$Circuit", name := "gate", desc := "(ILTraceWarden$Gate;LTraceWarden$Gate;)LTraceWarden$Gate;" } : Jvm.MethodName)) ∈ lw_all := lw_g (lw_at lw_m5 104 rfl) rfl
theorem q1129 : (Jvm.Cond.code ({ cls := "TraceWarden$Circuit", name := "gate", desc := "(ILTraceWarden$Gate;LTraceWarden$Gate;)LTraceWarden$Gate;" } : Jvm.MethodName) prog_2_method_6_code (6 : Nat) (Option.some (Jvm.ClassFile.FieldType.object "TraceWarden$Gate"))) ∈ lw_all := lw_g (lw_at lw_m5 105 rfl) rfl
theorem q1130 : (Jvm.Cond.methodLink "TraceWarden$Circuit" (77 : Nat) ({ cls := "java/util/ArrayList", name := "get", desc := "(I)Ljava/lang/Object;" } : Jvm.MethodName)) ∈ lw_all := lw_g (lw_at lw_m5 106 rfl) rfl
theorem q1131 : (Jvm.Cond.methodLink "TraceWarden$Circuit" (90 : Nat) ({ cls := "java/util/ArrayList", name := "size", desc := "()I" } : Jvm.MethodName)) ∈ lw_all := lw_g (lw_at lw_m5 107 rfl) rfl
theorem q1132 : (Jvm.Cond.methodLink "TraceWarden$Circuit" (94 : Nat) ({ cls := "java/util/ArrayList", name := "add", desc := "(Ljava/lang/Object;)Z" } : Jvm.MethodName)) ∈ lw_all := lw_g (lw_at lw_m5 108 rfl) rfl
theorem q1133 : (Jvm.Cond.methodLink "TraceWarden$Circuit" (98 : Nat) ({ cls := "TraceWarden$Gate", name := "be", desc := "(ILTraceWarden$Gate;LTraceWarden$Gate;)LTraceWarden$Gate;" } : Jvm.MethodName)) ∈ lw_all := lw_g (lw_at lw_m5 109 rfl) rfl
theorem q1205 : (Jvm.Cond.instanceMethod ({ cls := "TraceWarden$Circuit", name := "value", desc := "(III)Z" } : Jvm.MethodName)) ∈ lw_all := lw_g (lw_at lw_m5 181 rfl) rfl
theorem q1206 : (Jvm.Cond.selects "TraceWarden$Circuit" ({ cls := "TraceWarden$Circuit", name := "value", desc := "(III)Z" } : Jvm.MethodName) ({ cls := "TraceWarden$Circuit", name := "value", desc := "(III)Z" } : Jvm.MethodName)) ∈ lw_all := lw_g (lw_at lw_m5 182 rfl) rfl
theorem q1207 : (Jvm.Cond.code ({ cls := "TraceWarden$Circuit", name := "value", desc := "(III)Z" } : Jvm.MethodName) prog_2_method_8_code (6 : Nat) (Option.some Jvm.ClassFile.FieldType.boolean)) ∈ lw_all := lw_g (lw_at lw_m5 183 rfl) rfl
theorem q1671 : (Jvm.Cond.castable "TraceWarden$Circuit" "java/lang/Object") ∈ lw_tbl := lw_at lw_m7 167 rfl
theorem in_X7 : ∀ w ∈ wsX70, w ∈ lw_all := lw_in wsX70 [297, 299, 301, 303, 305, 307, 309, 311] (by decide +kernel) (by decide +kernel)

/-! TraceWarden$Gate -/
def RX8 : String := "TraceWarden$Gate"
def TX8 : u_T := fun k => match k with
  | 0 => ("TraceWarden$Gate", "input", "I", false)
  | 1 => ("TraceWarden$Gate", "low", "LTraceWarden$Gate;", false)
  | 2 => ("TraceWarden$Gate", "high", "LTraceWarden$Gate;", false)
  | _ => ("TraceWarden$Gate", "value", "Z", false)
def tyX8 : Nat → FieldType := fun k => match k with
  | 0 => .int
  | 1 => .object "TraceWarden$Gate"
  | 2 => .object "TraceWarden$Gate"
  | _ => .boolean
abbrev wsX80 : List Cond := u_ws RX8 TX8 4
theorem nmX8 : ∀ a, a < 4 → ∀ b, b < 4 → a ≠ b → (TX8 a).2.1 ≠ (TX8 b).2.1 := by decide +kernel
theorem tyX8_ok : ∀ k, k < 4 → parseFieldDescriptor (TX8 k).2.2.1 = some (tyX8 k) := by decide +kernel
abbrev cX8_init : ByteArray := prog_4_method_1_code
def yX8_init : MethodName := ⟨RX8, "<init>", "()V"⟩
abbrev cX8_be : ByteArray := prog_4_method_2_code
def yX8_be : MethodName := ⟨RX8, "be", "(ILTraceWarden$Gate;LTraceWarden$Gate;)LTraceWarden$Gate;"⟩
theorem q75 : (Jvm.Cond.initialized "TraceWarden$Gate") ∈ lw_all := lw_g (lw_at lw_m1 11 rfl) rfl
theorem q264 : (Jvm.Cond.instantiable "TraceWarden$Gate" (4 : Nat)) ∈ lw_all := lw_g (lw_at lw_m1 200 rfl) rfl
theorem q266 : (Jvm.Cond.instanceMethod ({ cls := "TraceWarden$Gate", name := "<init>", desc := "()V" } : Jvm.MethodName)) ∈ lw_all := lw_g (lw_at lw_m1 202 rfl) rfl
theorem q267 : (Jvm.Cond.code ({ cls := "TraceWarden$Gate", name := "<init>", desc := "()V" } : Jvm.MethodName) prog_4_method_1_code (1 : Nat) (Option.none : Option Jvm.ClassFile.FieldType)) ∈ lw_all := lw_g (lw_at lw_m1 203 rfl) rfl
theorem q268 : (Jvm.Cond.methodLink "TraceWarden$Gate" (1 : Nat) ({ cls := "java/lang/Object", name := "<init>", desc := "()V" } : Jvm.MethodName)) ∈ lw_all := lw_g (lw_at lw_m1 204 rfl) rfl
theorem q269 : (Jvm.Cond.fieldLink "TraceWarden$Gate" (7 : Nat) "TraceWarden$Gate" "input" "I") ∈ lw_all := lw_g (lw_at lw_m1 205 rfl) rfl
theorem q271 : (Jvm.Cond.fieldLink "TraceWarden$Gate" (13 : Nat) "TraceWarden$Gate" "low" "LTraceWarden$Gate;") ∈ lw_all := lw_g (lw_at lw_m1 207 rfl) rfl
theorem q273 : (Jvm.Cond.fieldLink "TraceWarden$Gate" (17 : Nat) "TraceWarden$Gate" "high" "LTraceWarden$Gate;") ∈ lw_all := lw_g (lw_at lw_m1 209 rfl) rfl
theorem q276 : (Jvm.Cond.lays "TraceWarden$Gate" "TraceWarden$Gate" "input" "I") ∈ lw_all := lw_g (lw_at lw_m1 212 rfl) rfl
theorem q277 : (Jvm.Cond.soleField "TraceWarden$Gate" "input") ∈ lw_all := lw_g (lw_at lw_m1 213 rfl) rfl
theorem q278 : (Jvm.Cond.lays "TraceWarden$Gate" "TraceWarden$Gate" "low" "LTraceWarden$Gate;") ∈ lw_all := lw_g (lw_at lw_m1 214 rfl) rfl
theorem q279 : (Jvm.Cond.soleField "TraceWarden$Gate" "low") ∈ lw_all := lw_g (lw_at lw_m1 215 rfl) rfl
theorem q280 : (Jvm.Cond.lays "TraceWarden$Gate" "TraceWarden$Gate" "high" "LTraceWarden$Gate;") ∈ lw_all := lw_g (lw_at lw_m1 216 rfl) rfl
theorem q281 : (Jvm.Cond.soleField "TraceWarden$Gate" "high") ∈ lw_all := lw_g (lw_at lw_m1 217 rfl) rfl
theorem q282 : (Jvm.Cond.lays "TraceWarden$Gate" "TraceWarden$Gate" "value" "Z") ∈ lw_all := lw_g (lw_at lw_m1 218 rfl) rfl
theorem q283 : (Jvm.Cond.soleField "TraceWarden$Gate" "value") ∈ lw_all := lw_g (lw_at lw_m1 219 rfl) rfl
theorem q284 : (Jvm.Cond.superclass "TraceWarden$Gate" "java/lang/Object") ∈ lw_all := lw_g (lw_at lw_m1 220 rfl) rfl
theorem q863 : (Jvm.Cond.selects "TraceWarden$Gate" ({ cls := "java/lang/Object", name := "getClass", desc := "()Ljava/lang/Class;" } : Jvm.MethodName) ({ cls := "java/lang/Object", name := "getClass", desc := "()Ljava/lang/Class;" } : Jvm.MethodName)) ∈ lw_all := lw_g (lw_at lw_m4 79 rfl) rfl
theorem q1134 : (Jvm.Cond.instanceMethod ({ cls := "TraceWarden$Gate", name := "be", desc := "(ILTraceWarden$Gate;LTraceWarden$Gate;)LTraceWarden$Gate;" } : Jvm.MethodName)) ∈ lw_all := lw_g (lw_at lw_m5 110 rfl) rfl
theorem q1135 : (Jvm.Cond.selects "TraceWarden$Gate" ({ cls := "TraceWarden$Gate", name := "be", desc := "(ILTraceWarden$Gate;LTraceWarden$Gate;)LTraceWarden$Gate;" } : Jvm.MethodName) ({ cls := "TraceWarden$Gate", name := "be", desc := "(ILTraceWarden$Gate;LTraceWarden$Gate;)LTraceWarden$Gate;" } : Jvm.MethodName)) ∈ lw_all := lw_g (lw_at lw_m5 111 rfl) rfl
theorem q1136 : (Jvm.Cond.code ({ cls := "TraceWarden$Gate", name := "be", desc := "(ILTraceWarden$Gate;LTraceWarden$Gate;)LTraceWarden$Gate;" } : Jvm.MethodName) prog_4_method_2_code (4 : Nat) (Option.some (Jvm.ClassFile.FieldType.object "TraceWarden$Gate"))) ∈ lw_all := lw_g (lw_at lw_m5 112 rfl) rfl
theorem q1662 : (Jvm.Cond.castable "TraceWarden$Gate" "java/lang/Object") ∈ lw_tbl := lw_at lw_m7 158 rfl
theorem in_X8 : ∀ w ∈ wsX80, w ∈ lw_all := lw_in wsX80 [276, 278, 280, 282] (by decide +kernel) (by decide +kernel)

