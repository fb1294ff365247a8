set_option maxRecDepth 100000
/-! TraceWardenModel -/
def RX9 : String := "TraceWardenModel"
def TX9 : u_T := fun k => match k with
  | 0 => ("TraceWardenModel", "code", "I", false)
  | 1 => ("TraceWardenModel", "text", "[C", true)
  | 2 => ("TraceWardenModel", "length", "I", false)
  | 3 => ("TraceWardenModel", "fault", "I", false)
  | 4 => ("TraceWardenModel", "nodes", "I", false)
  | 5 => ("TraceWardenModel", "kind", "[I", true)
  | 6 => ("TraceWardenModel", "one", "[I", true)
  | 7 => ("TraceWardenModel", "two", "[I", true)
  | 8 => ("TraceWardenModel", "beside", "[I", true)
  | 9 => ("TraceWardenModel", "least", "[I", true)
  | 10 => ("TraceWardenModel", "most", "[I", true)
  | 11 => ("TraceWardenModel", "at", "I", false)
  | 12 => ("TraceWardenModel", "good", "Z", false)
  | 13 => ("TraceWardenModel", "top", "I", false)
  | 14 => ("TraceWardenModel", "want", "[I", true)
  | 15 => ("TraceWardenModel", "about", "[I", true)
  | 16 => ("TraceWardenModel", "deep", "[I", true)
  | 17 => ("TraceWardenModel", "duties", "I", false)
  | 18 => ("TraceWardenModel", "dutyOf", "[I", true)
  | 19 => ("TraceWardenModel", "owner", "[I", true)
  | 20 => ("TraceWardenModel", "owned", "[I", true)
  | 21 => ("TraceWardenModel", "follows", "[I", true)
  | 22 => ("TraceWardenModel", "lasts", "[Z", true)
  | 23 => ("TraceWardenModel", "firsts", "[I", true)
  | 24 => ("TraceWardenModel", "steps", "I", false)
  | 25 => ("TraceWardenModel", "stepNode", "[I", true)
  | 26 => ("TraceWardenModel", "stepAt", "[I", true)
  | 27 => ("TraceWardenModel", "values", "I", false)
  | 28 => ("TraceWardenModel", "begins", "[I", true)
  | 29 => ("TraceWardenModel", "ends", "[I", true)
  | 30 => ("TraceWardenModel", "tails", "[I", true)
  | 31 => ("TraceWardenModel", "image", "[I", true)
  | 32 => ("TraceWardenModel", "truth", "[Z", true)
  | 33 => ("TraceWardenModel", "enough", "[Z", true)
  | 34 => ("TraceWardenModel", "conditions", "I", false)
  | 35 => ("TraceWardenModel", "table", "[J", true)
  | 36 => ("TraceWardenModel", "leads", "[I", true)
  | 37 => ("TraceWardenModel", "failing", "[Z", true)
  | 38 => ("TraceWardenModel", "sort", "[I", true)
  | 39 => ("TraceWardenModel", "newSort", "[I", true)
  | 40 => ("TraceWardenModel", "states", "I", false)
  | 41 => ("TraceWardenModel", "bits", "I", false)
  | 42 => ("TraceWardenModel", "gates", "I", false)
  | 43 => ("TraceWardenModel", "dutiesNow", "I", false)
  | 44 => ("TraceWardenModel", "conditionsNow", "I", false)
  | 45 => ("TraceWardenModel", "goes", "[I", true)
  | 46 => ("TraceWardenModel", "ways", "[I", true)
  | 47 => ("TraceWardenModel", "low", "[I", true)
  | 48 => ("TraceWardenModel", "high", "[I", true)
  | 49 => ("TraceWardenModel", "time", "I", false)
  | 50 => ("TraceWardenModel", "state", "I", false)
  | 51 => ("TraceWardenModel", "letters", "[I", true)
  | 52 => ("TraceWardenModel", "told", "[C", true)
  | _ => ("TraceWardenModel", "told0", "I", false)
def tyX9 : Nat → FieldType := fun k => match k with
  | 0 => .int
  | 1 => .array .char
  | 2 => .int
  | 3 => .int
  | 4 => .int
  | 5 => .array .int
  | 6 => .array .int
  | 7 => .array .int
  | 8 => .array .int
  | 9 => .array .int
  | 10 => .array .int
  | 11 => .int
  | 12 => .boolean
  | 13 => .int
  | 14 => .array .int
  | 15 => .array .int
  | 16 => .array .int
  | 17 => .int
  | 18 => .array .int
  | 19 => .array .int
  | 20 => .array .int
  | 21 => .array .int
  | 22 => .array .boolean
  | 23 => .array .int
  | 24 => .int
  | 25 => .array .int
  | 26 => .array .int
  | 27 => .int
  | 28 => .array .int
  | 29 => .array .int
  | 30 => .array .int
  | 31 => .array .int
  | 32 => .array .boolean
  | 33 => .array .boolean
  | 34 => .int
  | 35 => .array .long
  | 36 => .array .int
  | 37 => .array .boolean
  | 38 => .array .int
  | 39 => .array .int
  | 40 => .int
  | 41 => .int
  | 42 => .int
  | 43 => .int
  | 44 => .int
  | 45 => .array .int
  | 46 => .array .int
  | 47 => .array .int
  | 48 => .array .int
  | 49 => .int
  | 50 => .int
  | 51 => .array .int
  | 52 => .array .char
  | _ => .int
abbrev wsX90 : List Cond := u_ws RX9 TX9 54
theorem nmX9 : ∀ a, a < 54 → ∀ b, b < 54 → a ≠ b → (TX9 a).2.1 ≠ (TX9 b).2.1 := by decide +kernel
theorem tyX9_ok : ∀ k, k < 54 → parseFieldDescriptor (TX9 k).2.2.1 = some (tyX9 k) := by decide +kernel
abbrev cX9_init : ByteArray := prog_12_method_1_code
def yX9_init : MethodName := ⟨RX9, "<init>", "()V"⟩
abbrev cX9_thrown : ByteArray := prog_12_method_2_code
def yX9_thrown : MethodName := ⟨RX9, "thrown", "()I"⟩
abbrev cX9_text : ByteArray := prog_12_method_4_code
def yX9_text : MethodName := ⟨RX9, "text", "(J)I"⟩
abbrev cX9_wipe : ByteArray := prog_12_method_5_code
def yX9_wipe : MethodName := ⟨RX9, "wipe", "()V"⟩
abbrev cX9_fault : ByteArray := prog_12_method_6_code
def yX9_fault : MethodName := ⟨RX9, "fault", "()I"⟩
abbrev cX9_compile : ByteArray := prog_12_method_45_code
def yX9_compile : MethodName := ⟨RX9, "compile", "()I"⟩
abbrev cX9_read : ByteArray := prog_12_method_12_code
def yX9_read : MethodName := ⟨RX9, "read", "()V"⟩
abbrev cX9_expect : ByteArray := prog_12_method_8_code
def yX9_expect : MethodName := ⟨RX9, "expect", "(III)V"⟩
abbrev cX9_take : ByteArray := prog_12_method_13_code
def yX9_take : MethodName := ⟨RX9, "take", "(III)V"⟩
abbrev cX9_now : ByteArray := prog_12_method_7_code
def yX9_now : MethodName := ⟨RX9, "now", "()C"⟩
abbrev cX9_sprout : ByteArray := prog_12_method_14_code
def yX9_sprout : MethodName := ⟨RX9, "sprout", "(IIIC)V"⟩
abbrev cX9_literal : ByteArray := prog_12_method_11_code
def yX9_literal : MethodName := ⟨RX9, "literal", "(C)I"⟩
abbrev cX9_node : ByteArray := prog_12_method_9_code
def yX9_node : MethodName := ⟨RX9, "node", "(I)I"⟩
abbrev cX9_hang : ByteArray := prog_12_method_10_code
def yX9_hang : MethodName := ⟨RX9, "hang", "(II)V"⟩
abbrev cX9_piece : ByteArray := prog_12_method_15_code
def yX9_piece : MethodName := ⟨RX9, "piece", "(IIC)V"⟩
abbrev cX9_sequences : ByteArray := prog_12_method_16_code
def yX9_sequences : MethodName := ⟨RX9, "sequences", "(II)V"⟩
abbrev cX9_times : ByteArray := prog_12_method_17_code
def yX9_times : MethodName := ⟨RX9, "times", "(IC)V"⟩
abbrev cX9_raise : ByteArray := prog_12_method_3_code
def yX9_raise : MethodName := ⟨RX9, "raise", "(I)I"⟩
abbrev cX9_collect : ByteArray := prog_12_method_19_code
def yX9_collect : MethodName := ⟨RX9, "collect", "()V"⟩
abbrev cX9_oblige : ByteArray := prog_12_method_18_code
def yX9_oblige : MethodName := ⟨RX9, "oblige", "(I)V"⟩
abbrev cX9_unroll : ByteArray := prog_12_method_22_code
def yX9_unroll : MethodName := ⟨RX9, "unroll", "(I)V"⟩
abbrev cX9_enter : ByteArray := prog_12_method_20_code
def yX9_enter : MethodName := ⟨RX9, "enter", "(I)V"⟩
abbrev cX9_list : ByteArray := prog_12_method_25_code
def yX9_list : MethodName := ⟨RX9, "list", "(I)V"⟩
abbrev cX9_follow : ByteArray := prog_12_method_24_code
def yX9_follow : MethodName := ⟨RX9, "follow", "(II)V"⟩
abbrev cX9_copy : ByteArray := prog_12_method_26_code
def yX9_copy : MethodName := ⟨RX9, "copy", "(I)V"⟩
abbrev cX9_place : ByteArray := prog_12_method_23_code
def yX9_place : MethodName := ⟨RX9, "place", "(II)V"⟩
abbrev cX9_push : ByteArray := prog_12_method_21_code
def yX9_push : MethodName := ⟨RX9, "push", "(II)V"⟩
abbrev cX9_gather : ByteArray := prog_12_method_36_code
def yX9_gather : MethodName := ⟨RX9, "gather", "()Z"⟩
abbrev cX9_satisfied : ByteArray := prog_12_method_28_code
def yX9_satisfied : MethodName := ⟨RX9, "satisfied", "(II)I"⟩
abbrev cX9_asks : ByteArray := prog_12_method_31_code
def yX9_asks : MethodName := ⟨RX9, "asks", "(III)Z"⟩
abbrev cX9_literally : ByteArray := prog_12_method_27_code
def yX9_literally : MethodName := ⟨RX9, "literally", "(II)Z"⟩
abbrev cX9_has : ByteArray := prog_12_method_30_code
def yX9_has : MethodName := ⟨RX9, "has", "(II)Z"⟩
abbrev cX9_places : ByteArray := prog_12_method_32_code
def yX9_places : MethodName := ⟨RX9, "places", "(IIZ)Z"⟩
abbrev cX9_isPlace : ByteArray := prog_12_method_29_code
def yX9_isPlace : MethodName := ⟨RX9, "isPlace", "(I)Z"⟩
abbrev cX9_after : ByteArray := prog_12_method_34_code
def yX9_after : MethodName := ⟨RX9, "after", "(II)I"⟩
abbrev cX9_marked : ByteArray := prog_12_method_33_code
def yX9_marked : MethodName := ⟨RX9, "marked", "(II)Z"⟩
abbrev cX9_known : ByteArray := prog_12_method_35_code
def yX9_known : MethodName := ⟨RX9, "known", "(I)I"⟩
abbrev cX9_fail : ByteArray := prog_12_method_37_code
def yX9_fail : MethodName := ⟨RX9, "fail", "()V"⟩
abbrev cX9_split : ByteArray := prog_12_method_39_code
def yX9_split : MethodName := ⟨RX9, "split", "()V"⟩
abbrev cX9_sortAt : ByteArray := prog_12_method_38_code
def yX9_sortAt : MethodName := ⟨RX9, "sortAt", "(II)I"⟩
abbrev cX9_number : ByteArray := prog_12_method_40_code
def yX9_number : MethodName := ⟨RX9, "number", "()V"⟩
abbrev cX9_count : ByteArray := prog_12_method_43_code
def yX9_count : MethodName := ⟨RX9, "count", "()V"⟩
abbrev cX9_wayOf : ByteArray := prog_12_method_42_code
def yX9_wayOf : MethodName := ⟨RX9, "wayOf", "(II)I"⟩
abbrev cX9_codeAfter : ByteArray := prog_12_method_41_code
def yX9_codeAfter : MethodName := ⟨RX9, "codeAfter", "(II)I"⟩
abbrev cX9_pair : ByteArray := prog_12_method_44_code
def yX9_pair : MethodName := ⟨RX9, "pair", "(III)I"⟩
abbrev cX9_size : ByteArray := prog_12_method_46_code
def yX9_size : MethodName := ⟨RX9, "size", "(I)I"⟩
abbrev cX9_next : ByteArray := prog_12_method_47_code
def yX9_next : MethodName := ⟨RX9, "next", "(II)I"⟩
abbrev cX9_output : ByteArray := prog_12_method_48_code
def yX9_output : MethodName := ⟨RX9, "output", "(III)Z"⟩
abbrev cX9_begin : ByteArray := prog_12_method_49_code
def yX9_begin : MethodName := ⟨RX9, "begin", "()Z"⟩
abbrev cX9_step : ByteArray := prog_12_method_50_code
def yX9_step : MethodName := ⟨RX9, "step", "(I)I"⟩
abbrev cX9_time : ByteArray := prog_12_method_51_code
def yX9_time : MethodName := ⟨RX9, "time", "()I"⟩
abbrev cX9_window : ByteArray := prog_12_method_54_code
def yX9_window : MethodName := ⟨RX9, "window", "()I"⟩
abbrev cX9_shortest : ByteArray := prog_12_method_53_code
def yX9_shortest : MethodName := ⟨RX9, "shortest", "()I"⟩
abbrev cX9_fails : ByteArray := prog_12_method_52_code
def yX9_fails : MethodName := ⟨RX9, "fails", "(I)Z"⟩
abbrev cX9_loop : ByteArray := prog_12_method_55_code
def yX9_loop : MethodName := ⟨RX9, "loop", "(I)Z"⟩
abbrev cX9_report : ByteArray := prog_12_method_59_code
def yX9_report : MethodName := ⟨RX9, "report", "()I"⟩
abbrev cX9_tellWord : ByteArray := prog_12_method_58_code
def yX9_tellWord : MethodName := ⟨RX9, "tellWord", "(I)V"⟩
abbrev cX9_tell : ByteArray := prog_12_method_56_code
def yX9_tell : MethodName := ⟨RX9, "tell", "(C)V"⟩
abbrev cX9_tellNumber : ByteArray := prog_12_method_57_code
def yX9_tellNumber : MethodName := ⟨RX9, "tellNumber", "(I)V"⟩
abbrev cX9_said : ByteArray := prog_12_method_60_code
def yX9_said : MethodName := ⟨RX9, "said", "(I)C"⟩
theorem q76 : (Jvm.Cond.initialized "TraceWardenModel") ∈ lw_all := lw_g (lw_at lw_m1 12 rfl) rfl
theorem q870 : (Jvm.Cond.selects "TraceWardenModel" ({ cls := "java/lang/Object", name := "getClass", desc := "()Ljava/lang/Class;" } : Jvm.MethodName) ({ cls := "java/lang/Object", name := "getClass", desc := "()Ljava/lang/Class;" } : Jvm.MethodName)) ∈ lw_all := lw_g (lw_at lw_m4 86 rfl) rfl
theorem q1238 : (Jvm.Cond.instantiable "TraceWardenModel" (54 : Nat)) ∈ lw_all := lw_g (lw_at lw_m5 214 rfl) rfl
theorem q1240 : (Jvm.Cond.instanceMethod ({ cls := "TraceWardenModel", name := "<init>", desc := "()V" } : Jvm.MethodName)) ∈ lw_all := lw_g (lw_at lw_m5 216 rfl) rfl
theorem q1241 : (Jvm.Cond.code ({ cls := "TraceWardenModel", name := "<init>", desc := "()V" } : Jvm.MethodName) prog_12_method_1_code (1 : Nat) (Option.none : Option Jvm.ClassFile.FieldType)) ∈ lw_all := lw_g (lw_at lw_m5 217 rfl) rfl
theorem q1242 : (Jvm.Cond.methodLink "TraceWardenModel" (1 : Nat) ({ cls := "java/lang/Object", name := "<init>", desc := "()V" } : Jvm.MethodName)) ∈ lw_all := lw_g (lw_at lw_m5 218 rfl) rfl
theorem q1243 : (Jvm.Cond.fieldLink "TraceWardenModel" (128 : Nat) "TraceWardenModel" "code" "I") ∈ lw_all := lw_g (lw_at lw_m5 219 rfl) rfl
theorem q1244 : (Jvm.Cond.fieldLink "TraceWardenModel" (7 : Nat) "TraceWardenModel" "text" "[C") ∈ lw_all := lw_g (lw_at lw_m5 220 rfl) rfl
theorem q1245 : (Jvm.Cond.fieldLink "TraceWardenModel" (133 : Nat) "TraceWardenModel" "length" "I") ∈ lw_all := lw_g (lw_at lw_m5 221 rfl) rfl
theorem q1246 : (Jvm.Cond.fieldLink "TraceWardenModel" (13 : Nat) "TraceWardenModel" "fault" "I") ∈ lw_all := lw_g (lw_at lw_m5 222 rfl) rfl
theorem q1247 : (Jvm.Cond.fieldLink "TraceWardenModel" (142 : Nat) "TraceWardenModel" "nodes" "I") ∈ lw_all := lw_g (lw_at lw_m5 223 rfl) rfl
theorem q1248 : (Jvm.Cond.fieldLink "TraceWardenModel" (17 : Nat) "TraceWardenModel" "kind" "[I") ∈ lw_all := lw_g (lw_at lw_m5 224 rfl) rfl
theorem q1249 : (Jvm.Cond.fieldLink "TraceWardenModel" (21 : Nat) "TraceWardenModel" "one" "[I") ∈ lw_all := lw_g (lw_at lw_m5 225 rfl) rfl
theorem q1250 : (Jvm.Cond.fieldLink "TraceWardenModel" (24 : Nat) "TraceWardenModel" "two" "[I") ∈ lw_all := lw_g (lw_at lw_m5 226 rfl) rfl
theorem q1251 : (Jvm.Cond.fieldLink "TraceWardenModel" (27 : Nat) "TraceWardenModel" "beside" "[I") ∈ lw_all := lw_g (lw_at lw_m5 227 rfl) rfl
theorem q1252 : (Jvm.Cond.fieldLink "TraceWardenModel" (30 : Nat) "TraceWardenModel" "least" "[I") ∈ lw_all := lw_g (lw_at lw_m5 228 rfl) rfl
theorem q1253 : (Jvm.Cond.fieldLink "TraceWardenModel" (33 : Nat) "TraceWardenModel" "most" "[I") ∈ lw_all := lw_g (lw_at lw_m5 229 rfl) rfl
theorem q1254 : (Jvm.Cond.fieldLink "TraceWardenModel" (136 : Nat) "TraceWardenModel" "at" "I") ∈ lw_all := lw_g (lw_at lw_m5 230 rfl) rfl
theorem q1255 : (Jvm.Cond.fieldLink "TraceWardenModel" (145 : Nat) "TraceWardenModel" "good" "Z") ∈ lw_all := lw_g (lw_at lw_m5 231 rfl) rfl
theorem q1256 : (Jvm.Cond.fieldLink "TraceWardenModel" (139 : Nat) "TraceWardenModel" "top" "I") ∈ lw_all := lw_g (lw_at lw_m5 232 rfl) rfl
theorem q1257 : (Jvm.Cond.fieldLink "TraceWardenModel" (36 : Nat) "TraceWardenModel" "want" "[I") ∈ lw_all := lw_g (lw_at lw_m5 233 rfl) rfl
theorem q1258 : (Jvm.Cond.fieldLink "TraceWardenModel" (39 : Nat) "TraceWardenModel" "about" "[I") ∈ lw_all := lw_g (lw_at lw_m5 234 rfl) rfl
theorem q1259 : (Jvm.Cond.fieldLink "TraceWardenModel" (42 : Nat) "TraceWardenModel" "deep" "[I") ∈ lw_all := lw_g (lw_at lw_m5 235 rfl) rfl
theorem q1260 : (Jvm.Cond.fieldLink "TraceWardenModel" (187 : Nat) "TraceWardenModel" "duties" "I") ∈ lw_all := lw_g (lw_at lw_m5 236 rfl) rfl
theorem q1261 : (Jvm.Cond.fieldLink "TraceWardenModel" (45 : Nat) "TraceWardenModel" "dutyOf" "[I") ∈ lw_all := lw_g (lw_at lw_m5 237 rfl) rfl
theorem q1262 : (Jvm.Cond.fieldLink "TraceWardenModel" (48 : Nat) "TraceWardenModel" "owner" "[I") ∈ lw_all := lw_g (lw_at lw_m5 238 rfl) rfl
theorem q1263 : (Jvm.Cond.fieldLink "TraceWardenModel" (51 : Nat) "TraceWardenModel" "owned" "[I") ∈ lw_all := lw_g (lw_at lw_m5 239 rfl) rfl
theorem q1264 : (Jvm.Cond.fieldLink "TraceWardenModel" (54 : Nat) "TraceWardenModel" "follows" "[I") ∈ lw_all := lw_g (lw_at lw_m6 0 rfl) rfl
theorem q1265 : (Jvm.Cond.fieldLink "TraceWardenModel" (57 : Nat) "TraceWardenModel" "lasts" "[Z") ∈ lw_all := lw_g (lw_at lw_m6 1 rfl) rfl
theorem q1266 : (Jvm.Cond.fieldLink "TraceWardenModel" (61 : Nat) "TraceWardenModel" "firsts" "[I") ∈ lw_all := lw_g (lw_at lw_m6 2 rfl) rfl
theorem q1267 : (Jvm.Cond.fieldLink "TraceWardenModel" (197 : Nat) "TraceWardenModel" "steps" "I") ∈ lw_all := lw_g (lw_at lw_m6 3 rfl) rfl
theorem q1268 : (Jvm.Cond.fieldLink "TraceWardenModel" (64 : Nat) "TraceWardenModel" "stepNode" "[I") ∈ lw_all := lw_g (lw_at lw_m6 4 rfl) rfl
theorem q1269 : (Jvm.Cond.fieldLink "TraceWardenModel" (67 : Nat) "TraceWardenModel" "stepAt" "[I") ∈ lw_all := lw_g (lw_at lw_m6 5 rfl) rfl
theorem q1270 : (Jvm.Cond.fieldLink "TraceWardenModel" (200 : Nat) "TraceWardenModel" "values" "I") ∈ lw_all := lw_g (lw_at lw_m6 6 rfl) rfl
theorem q1271 : (Jvm.Cond.fieldLink "TraceWardenModel" (70 : Nat) "TraceWardenModel" "begins" "[I") ∈ lw_all := lw_g (lw_at lw_m6 7 rfl) rfl
theorem q1272 : (Jvm.Cond.fieldLink "TraceWardenModel" (73 : Nat) "TraceWardenModel" "ends" "[I") ∈ lw_all := lw_g (lw_at lw_m6 8 rfl) rfl
theorem q1273 : (Jvm.Cond.fieldLink "TraceWardenModel" (76 : Nat) "TraceWardenModel" "tails" "[I") ∈ lw_all := lw_g (lw_at lw_m6 9 rfl) rfl
theorem q1274 : (Jvm.Cond.fieldLink "TraceWardenModel" (79 : Nat) "TraceWardenModel" "image" "[I") ∈ lw_all := lw_g (lw_at lw_m6 10 rfl) rfl
theorem q1275 : (Jvm.Cond.fieldLink "TraceWardenModel" (82 : Nat) "TraceWardenModel" "truth" "[Z") ∈ lw_all := lw_g (lw_at lw_m6 11 rfl) rfl
theorem q1276 : (Jvm.Cond.fieldLink "TraceWardenModel" (85 : Nat) "TraceWardenModel" "enough" "[Z") ∈ lw_all := lw_g (lw_at lw_m6 12 rfl) rfl
theorem q1277 : (Jvm.Cond.fieldLink "TraceWardenModel" (240 : Nat) "TraceWardenModel" "conditions" "I") ∈ lw_all := lw_g (lw_at lw_m6 13 rfl) rfl
theorem q1278 : (Jvm.Cond.fieldLink "TraceWardenModel" (88 : Nat) "TraceWardenModel" "table" "[J") ∈ lw_all := lw_g (lw_at lw_m6 14 rfl) rfl
theorem q1279 : (Jvm.Cond.fieldLink "TraceWardenModel" (92 : Nat) "TraceWardenModel" "leads" "[I") ∈ lw_all := lw_g (lw_at lw_m6 15 rfl) rfl
theorem q1280 : (Jvm.Cond.fieldLink "TraceWardenModel" (95 : Nat) "TraceWardenModel" "failing" "[Z") ∈ lw_all := lw_g (lw_at lw_m6 16 rfl) rfl
theorem q1281 : (Jvm.Cond.fieldLink "TraceWardenModel" (98 : Nat) "TraceWardenModel" "sort" "[I") ∈ lw_all := lw_g (lw_at lw_m6 17 rfl) rfl
theorem q1282 : (Jvm.Cond.fieldLink "TraceWardenModel" (101 : Nat) "TraceWardenModel" "newSort" "[I") ∈ lw_all := lw_g (lw_at lw_m6 18 rfl) rfl
theorem q1283 : (Jvm.Cond.fieldLink "TraceWardenModel" (104 : Nat) "TraceWardenModel" "states" "I") ∈ lw_all := lw_g (lw_at lw_m6 19 rfl) rfl
theorem q1284 : (Jvm.Cond.fieldLink "TraceWardenModel" (259 : Nat) "TraceWardenModel" "bits" "I") ∈ lw_all := lw_g (lw_at lw_m6 20 rfl) rfl
theorem q1285 : (Jvm.Cond.fieldLink "TraceWardenModel" (268 : Nat) "TraceWardenModel" "gates" "I") ∈ lw_all := lw_g (lw_at lw_m6 21 rfl) rfl
theorem q1286 : (Jvm.Cond.fieldLink "TraceWardenModel" (300 : Nat) "TraceWardenModel" "dutiesNow" "I") ∈ lw_all := lw_g (lw_at lw_m6 22 rfl) rfl
theorem q1287 : (Jvm.Cond.fieldLink "TraceWardenModel" (303 : Nat) "TraceWardenModel" "conditionsNow" "I") ∈ lw_all := lw_g (lw_at lw_m6 23 rfl) rfl
theorem q1288 : (Jvm.Cond.fieldLink "TraceWardenModel" (107 : Nat) "TraceWardenModel" "goes" "[I") ∈ lw_all := lw_g (lw_at lw_m6 24 rfl) rfl
theorem q1289 : (Jvm.Cond.fieldLink "TraceWardenModel" (110 : Nat) "TraceWardenModel" "ways" "[I") ∈ lw_all := lw_g (lw_at lw_m6 25 rfl) rfl
theorem q1290 : (Jvm.Cond.fieldLink "TraceWardenModel" (113 : Nat) "TraceWardenModel" "low" "[I") ∈ lw_all := lw_g (lw_at lw_m6 26 rfl) rfl
theorem q1291 : (Jvm.Cond.fieldLink "TraceWardenModel" (116 : Nat) "TraceWardenModel" "high" "[I") ∈ lw_all := lw_g (lw_at lw_m6 27 rfl) rfl
theorem q1292 : (Jvm.Cond.fieldLink "TraceWardenModel" (119 : Nat) "TraceWardenModel" "time" "I") ∈ lw_all := lw_g (lw_at lw_m6 28 rfl) rfl
theorem q1293 : (Jvm.Cond.fieldLink "TraceWardenModel" (306 : Nat) "TraceWardenModel" "state" "I") ∈ lw_all := lw_g (lw_at lw_m6 29 rfl) rfl
theorem q1294 : (Jvm.Cond.fieldLink "TraceWardenModel" (122 : Nat) "TraceWardenModel" "letters" "[I") ∈ lw_all := lw_g (lw_at lw_m6 30 rfl) rfl
theorem q1295 : (Jvm.Cond.fieldLink "TraceWardenModel" (125 : Nat) "TraceWardenModel" "told" "[C") ∈ lw_all := lw_g (lw_at lw_m6 31 rfl) rfl
theorem q1296 : (Jvm.Cond.fieldLink "TraceWardenModel" (316 : Nat) "TraceWardenModel" "told0" "I") ∈ lw_all := lw_g (lw_at lw_m6 32 rfl) rfl
theorem q1297 : (Jvm.Cond.lays "TraceWardenModel" "TraceWardenModel" "code" "I") ∈ lw_all := lw_g (lw_at lw_m6 33 rfl) rfl
theorem q1298 : (Jvm.Cond.soleField "TraceWardenModel" "code") ∈ lw_all := lw_g (lw_at lw_m6 34 rfl) rfl
theorem q1299 : (Jvm.Cond.laysFinal "TraceWardenModel" "TraceWardenModel" "text" "[C") ∈ lw_all := lw_g (lw_at lw_m6 35 rfl) rfl
theorem q1300 : (Jvm.Cond.soleField "TraceWardenModel" "text") ∈ lw_all := lw_g (lw_at lw_m6 36 rfl) rfl
theorem q1301 : (Jvm.Cond.lays "TraceWardenModel" "TraceWardenModel" "length" "I") ∈ lw_all := lw_g (lw_at lw_m6 37 rfl) rfl
theorem q1302 : (Jvm.Cond.soleField "TraceWardenModel" "length") ∈ lw_all := lw_g (lw_at lw_m6 38 rfl) rfl
theorem q1303 : (Jvm.Cond.lays "TraceWardenModel" "TraceWardenModel" "fault" "I") ∈ lw_all := lw_g (lw_at lw_m6 39 rfl) rfl
theorem q1304 : (Jvm.Cond.soleField "TraceWardenModel" "fault") ∈ lw_all := lw_g (lw_at lw_m6 40 rfl) rfl
theorem q1305 : (Jvm.Cond.lays "TraceWardenModel" "TraceWardenModel" "nodes" "I") ∈ lw_all := lw_g (lw_at lw_m6 41 rfl) rfl
theorem q1306 : (Jvm.Cond.soleField "TraceWardenModel" "nodes") ∈ lw_all := lw_g (lw_at lw_m6 42 rfl) rfl
theorem q1307 : (Jvm.Cond.laysFinal "TraceWardenModel" "TraceWardenModel" "kind" "[I") ∈ lw_all := lw_g (lw_at lw_m6 43 rfl) rfl
theorem q1308 : (Jvm.Cond.soleField "TraceWardenModel" "kind") ∈ lw_all := lw_g (lw_at lw_m6 44 rfl) rfl
theorem q1309 : (Jvm.Cond.laysFinal "TraceWardenModel" "TraceWardenModel" "one" "[I") ∈ lw_all := lw_g (lw_at lw_m6 45 rfl) rfl
theorem q1310 : (Jvm.Cond.soleField "TraceWardenModel" "one") ∈ lw_all := lw_g (lw_at lw_m6 46 rfl) rfl
theorem q1311 : (Jvm.Cond.laysFinal "TraceWardenModel" "TraceWardenModel" "two" "[I") ∈ lw_all := lw_g (lw_at lw_m6 47 rfl) rfl
theorem q1312 : (Jvm.Cond.soleField "TraceWardenModel" "two") ∈ lw_all := lw_g (lw_at lw_m6 48 rfl) rfl
theorem q1313 : (Jvm.Cond.laysFinal "TraceWardenModel" "TraceWardenModel" "beside" "[I") ∈ lw_all := lw_g (lw_at lw_m6 49 rfl) rfl
theorem q1314 : (Jvm.Cond.soleField "TraceWardenModel" "beside") ∈ lw_all := lw_g (lw_at lw_m6 50 rfl) rfl
theorem q1315 : (Jvm.Cond.laysFinal "TraceWardenModel" "TraceWardenModel" "least" "[I") ∈ lw_all := lw_g (lw_at lw_m6 51 rfl) rfl
theorem q1316 : (Jvm.Cond.soleField "TraceWardenModel" "least") ∈ lw_all := lw_g (lw_at lw_m6 52 rfl) rfl
theorem q1317 : (Jvm.Cond.laysFinal "TraceWardenModel" "TraceWardenModel" "most" "[I") ∈ lw_all := lw_g (lw_at lw_m6 53 rfl) rfl
theorem q1318 : (Jvm.Cond.soleField "TraceWardenModel" "most") ∈ lw_all := lw_g (lw_at lw_m6 54 rfl) rfl
theorem q1319 : (Jvm.Cond.lays "TraceWardenModel" "TraceWardenModel" "at" "I") ∈ lw_all := lw_g (lw_at lw_m6 55 rfl) rfl
theorem q1320 : (Jvm.Cond.soleField "TraceWardenModel" "at") ∈ lw_all := lw_g (lw_at lw_m6 56 rfl) rfl
theorem q1321 : (Jvm.Cond.lays "TraceWardenModel" "TraceWardenModel" "good" "Z") ∈ lw_all := lw_g (lw_at lw_m6 57 rfl) rfl
theorem q1322 : (Jvm.Cond.soleField "TraceWardenModel" "good") ∈ lw_all := lw_g (lw_at lw_m6 58 rfl) rfl
theorem q1323 : (Jvm.Cond.lays "TraceWardenModel" "TraceWardenModel" "top" "I") ∈ lw_all := lw_g (lw_at lw_m6 59 rfl) rfl
theorem q1324 : (Jvm.Cond.soleField "TraceWardenModel" "top") ∈ lw_all := lw_g (lw_at lw_m6 60 rfl) rfl
theorem q1325 : (Jvm.Cond.laysFinal "TraceWardenModel" "TraceWardenModel" "want" "[I") ∈ lw_all := lw_g (lw_at lw_m6 61 rfl) rfl
theorem q1326 : (Jvm.Cond.soleField "TraceWardenModel" "want") ∈ lw_all := lw_g (lw_at lw_m6 62 rfl) rfl
theorem q1327 : (Jvm.Cond.laysFinal "TraceWardenModel" "TraceWardenModel" "about" "[I") ∈ lw_all := lw_g (lw_at lw_m6 63 rfl) rfl
theorem q1328 : (Jvm.Cond.soleField "TraceWardenModel" "about") ∈ lw_all := lw_g (lw_at lw_m6 64 rfl) rfl
theorem q1329 : (Jvm.Cond.laysFinal "TraceWardenModel" "TraceWardenModel" "deep" "[I") ∈ lw_all := lw_g (lw_at lw_m6 65 rfl) rfl
theorem q1330 : (Jvm.Cond.soleField "TraceWardenModel" "deep") ∈ lw_all := lw_g (lw_at lw_m6 66 rfl) rfl
theorem q1331 : (Jvm.Cond.lays "TraceWardenModel" "TraceWardenModel" "duties" "I") ∈ lw_all := lw_g (lw_at lw_m6 67 rfl) rfl
theorem q1332 : (Jvm.Cond.soleField "TraceWardenModel" "duties") ∈ lw_all := lw_g (lw_at lw_m6 68 rfl) rfl
theorem q1333 : (Jvm.Cond.laysFinal "TraceWardenModel" "TraceWardenModel" "dutyOf" "[I") ∈ lw_all := lw_g (lw_at lw_m6 69 rfl) rfl
theorem q1334 : (Jvm.Cond.soleField "TraceWardenModel" "dutyOf") ∈ lw_all := lw_g (lw_at lw_m6 70 rfl) rfl
theorem q1335 : (Jvm.Cond.laysFinal "TraceWardenModel" "TraceWardenModel" "owner" "[I") ∈ lw_all := lw_g (lw_at lw_m6 71 rfl) rfl
theorem q1336 : (Jvm.Cond.soleField "TraceWardenModel" "owner") ∈ lw_all := lw_g (lw_at lw_m6 72 rfl) rfl
theorem q1337 : (Jvm.Cond.laysFinal "TraceWardenModel" "TraceWardenModel" "owned" "[I") ∈ lw_all := lw_g (lw_at lw_m6 73 rfl) rfl
theorem q1338 : (Jvm.Cond.soleField "TraceWardenModel" "owned") ∈ lw_all := lw_g (lw_at lw_m6 74 rfl) rfl
theorem q1339 : (Jvm.Cond.laysFinal "TraceWardenModel" "TraceWardenModel" "follows" "[I") ∈ lw_all := lw_g (lw_at lw_m6 75 rfl) rfl
theorem q1340 : (Jvm.Cond.soleField "TraceWardenModel" "follows") ∈ lw_all := lw_g (lw_at lw_m6 76 rfl) rfl
theorem q1341 : (Jvm.Cond.laysFinal "TraceWardenModel" "TraceWardenModel" "lasts" "[Z") ∈ lw_all := lw_g (lw_at lw_m6 77 rfl) rfl
theorem q1342 : (Jvm.Cond.soleField "TraceWardenModel" "lasts") ∈ lw_all := lw_g (lw_at lw_m6 78 rfl) rfl
theorem q1343 : (Jvm.Cond.laysFinal "TraceWardenModel" "TraceWardenModel" "firsts" "[I") ∈ lw_all := lw_g (lw_at lw_m6 79 rfl) rfl
theorem q1344 : (Jvm.Cond.soleField "TraceWardenModel" "firsts") ∈ lw_all := lw_g (lw_at lw_m6 80 rfl) rfl
theorem q1345 : (Jvm.Cond.lays "TraceWardenModel" "TraceWardenModel" "steps" "I") ∈ lw_all := lw_g (lw_at lw_m6 81 rfl) rfl
theorem q1346 : (Jvm.Cond.soleField "TraceWardenModel" "steps") ∈ lw_all := lw_g (lw_at lw_m6 82 rfl) rfl
theorem q1347 : (Jvm.Cond.laysFinal "TraceWardenModel" "TraceWardenModel" "stepNode" "[I") ∈ lw_all := lw_g (lw_at lw_m6 83 rfl) rfl
theorem q1348 : (Jvm.Cond.soleField "TraceWardenModel" "stepNode") ∈ lw_all := lw_g (lw_at lw_m6 84 rfl) rfl
theorem q1349 : (Jvm.Cond.laysFinal "TraceWardenModel" "TraceWardenModel" "stepAt" "[I") ∈ lw_all := lw_g (lw_at lw_m6 85 rfl) rfl
theorem q1350 : (Jvm.Cond.soleField "TraceWardenModel" "stepAt") ∈ lw_all := lw_g (lw_at lw_m6 86 rfl) rfl
theorem q1351 : (Jvm.Cond.lays "TraceWardenModel" "TraceWardenModel" "values" "I") ∈ lw_all := lw_g (lw_at lw_m6 87 rfl) rfl
theorem q1352 : (Jvm.Cond.soleField "TraceWardenModel" "values") ∈ lw_all := lw_g (lw_at lw_m6 88 rfl) rfl
theorem q1353 : (Jvm.Cond.laysFinal "TraceWardenModel" "TraceWardenModel" "begins" "[I") ∈ lw_all := lw_g (lw_at lw_m6 89 rfl) rfl
theorem q1354 : (Jvm.Cond.soleField "TraceWardenModel" "begins") ∈ lw_all := lw_g (lw_at lw_m6 90 rfl) rfl
theorem q1355 : (Jvm.Cond.laysFinal "TraceWardenModel" "TraceWardenModel" "ends" "[I") ∈ lw_all := lw_g (lw_at lw_m6 91 rfl) rfl
theorem q1356 : (Jvm.Cond.soleField "TraceWardenModel" "ends") ∈ lw_all := lw_g (lw_at lw_m6 92 rfl) rfl
theorem q1357 : (Jvm.Cond.laysFinal "TraceWardenModel" "TraceWardenModel" "tails" "[I") ∈ lw_all := lw_g (lw_at lw_m6 93 rfl) rfl
theorem q1358 : (Jvm.Cond.soleField "TraceWardenModel" "tails") ∈ lw_all := lw_g (lw_at lw_m6 94 rfl) rfl
theorem q1359 : (Jvm.Cond.laysFinal "TraceWardenModel" "TraceWardenModel" "image" "[I") ∈ lw_all := lw_g (lw_at lw_m6 95 rfl) rfl
theorem q1360 : (Jvm.Cond.soleField "TraceWardenModel" "image") ∈ lw_all := lw_g (lw_at lw_m6 96 rfl) rfl
theorem q1361 : (Jvm.Cond.laysFinal "TraceWardenModel" "TraceWardenModel" "truth" "[Z") ∈ lw_all := lw_g (lw_at lw_m6 97 rfl) rfl
theorem q1362 : (Jvm.Cond.soleField "TraceWardenModel" "truth") ∈ lw_all := lw_g (lw_at lw_m6 98 rfl) rfl
theorem q1363 : (Jvm.Cond.laysFinal "TraceWardenModel" "TraceWardenModel" "enough" "[Z") ∈ lw_all := lw_g (lw_at lw_m6 99 rfl) rfl
theorem q1364 : (Jvm.Cond.soleField "TraceWardenModel" "enough") ∈ lw_all := lw_g (lw_at lw_m6 100 rfl) rfl
theorem q1365 : (Jvm.Cond.lays "TraceWardenModel" "TraceWardenModel" "conditions" "I") ∈ lw_all := lw_g (lw_at lw_m6 101 rfl) rfl
theorem q1366 : (Jvm.Cond.soleField "TraceWardenModel" "conditions") ∈ lw_all := lw_g (lw_at lw_m6 102 rfl) rfl
theorem q1367 : (Jvm.Cond.laysFinal "TraceWardenModel" "TraceWardenModel" "table" "[J") ∈ lw_all := lw_g (lw_at lw_m6 103 rfl) rfl
theorem q1368 : (Jvm.Cond.soleField "TraceWardenModel" "table") ∈ lw_all := lw_g (lw_at lw_m6 104 rfl) rfl
theorem q1369 : (Jvm.Cond.laysFinal "TraceWardenModel" "TraceWardenModel" "leads" "[I") ∈ lw_all := lw_g (lw_at lw_m6 105 rfl) rfl
theorem q1370 : (Jvm.Cond.soleField "TraceWardenModel" "leads") ∈ lw_all := lw_g (lw_at lw_m6 106 rfl) rfl
theorem q1371 : (Jvm.Cond.laysFinal "TraceWardenModel" "TraceWardenModel" "failing" "[Z") ∈ lw_all := lw_g (lw_at lw_m6 107 rfl) rfl
theorem q1372 : (Jvm.Cond.soleField "TraceWardenModel" "failing") ∈ lw_all := lw_g (lw_at lw_m6 108 rfl) rfl
theorem q1373 : (Jvm.Cond.laysFinal "TraceWardenModel" "TraceWardenModel" "sort" "[I") ∈ lw_all := lw_g (lw_at lw_m6 109 rfl) rfl
theorem q1374 : (Jvm.Cond.soleField "TraceWardenModel" "sort") ∈ lw_all := lw_g (lw_at lw_m6 110 rfl) rfl
theorem q1375 : (Jvm.Cond.laysFinal "TraceWardenModel" "TraceWardenModel" "newSort" "[I") ∈ lw_all := lw_g (lw_at lw_m6 111 rfl) rfl
theorem q1376 : (Jvm.Cond.soleField "TraceWardenModel" "newSort") ∈ lw_all := lw_g (lw_at lw_m6 112 rfl) rfl
theorem q1377 : (Jvm.Cond.lays "TraceWardenModel" "TraceWardenModel" "states" "I") ∈ lw_all := lw_g (lw_at lw_m6 113 rfl) rfl
theorem q1378 : (Jvm.Cond.soleField "TraceWardenModel" "states") ∈ lw_all := lw_g (lw_at lw_m6 114 rfl) rfl
theorem q1379 : (Jvm.Cond.lays "TraceWardenModel" "TraceWardenModel" "bits" "I") ∈ lw_all := lw_g (lw_at lw_m6 115 rfl) rfl
theorem q1380 : (Jvm.Cond.soleField "TraceWardenModel" "bits") ∈ lw_all := lw_g (lw_at lw_m6 116 rfl) rfl
theorem q1381 : (Jvm.Cond.lays "TraceWardenModel" "TraceWardenModel" "gates" "I") ∈ lw_all := lw_g (lw_at lw_m6 117 rfl) rfl
theorem q1382 : (Jvm.Cond.soleField "TraceWardenModel" "gates") ∈ lw_all := lw_g (lw_at lw_m6 118 rfl) rfl
theorem q1383 : (Jvm.Cond.lays "TraceWardenModel" "TraceWardenModel" "dutiesNow" "I") ∈ lw_all := lw_g (lw_at lw_m6 119 rfl) rfl
theorem q1384 : (Jvm.Cond.soleField "TraceWardenModel" "dutiesNow") ∈ lw_all := lw_g (lw_at lw_m6 120 rfl) rfl
theorem q1385 : (Jvm.Cond.lays "TraceWardenModel" "TraceWardenModel" "conditionsNow" "I") ∈ lw_all := lw_g (lw_at lw_m6 121 rfl) rfl
theorem q1386 : (Jvm.Cond.soleField "TraceWardenModel" "conditionsNow") ∈ lw_all := lw_g (lw_at lw_m6 122 rfl) rfl
theorem q1387 : (Jvm.Cond.laysFinal "TraceWardenModel" "TraceWardenModel" "goes" "[I") ∈ lw_all := lw_g (lw_at lw_m6 123 rfl) rfl
theorem q1388 : (Jvm.Cond.soleField "TraceWardenModel" "goes") ∈ lw_all := lw_g (lw_at lw_m6 124 rfl) rfl
theorem q1389 : (Jvm.Cond.laysFinal "TraceWardenModel" "TraceWardenModel" "ways" "[I") ∈ lw_all := lw_g (lw_at lw_m6 125 rfl) rfl
theorem q1390 : (Jvm.Cond.soleField "TraceWardenModel" "ways") ∈ lw_all := lw_g (lw_at lw_m6 126 rfl) rfl
theorem q1391 : (Jvm.Cond.laysFinal "TraceWardenModel" "TraceWardenModel" "low" "[I") ∈ lw_all := lw_g (lw_at lw_m6 127 rfl) rfl
theorem q1392 : (Jvm.Cond.soleField "TraceWardenModel" "low") ∈ lw_all := lw_g (lw_at lw_m6 128 rfl) rfl
theorem q1393 : (Jvm.Cond.laysFinal "TraceWardenModel" "TraceWardenModel" "high" "[I") ∈ lw_all := lw_g (lw_at lw_m6 129 rfl) rfl
theorem q1394 : (Jvm.Cond.soleField "TraceWardenModel" "high") ∈ lw_all := lw_g (lw_at lw_m6 130 rfl) rfl
theorem q1395 : (Jvm.Cond.lays "TraceWardenModel" "TraceWardenModel" "time" "I") ∈ lw_all := lw_g (lw_at lw_m6 131 rfl) rfl
theorem q1396 : (Jvm.Cond.soleField "TraceWardenModel" "time") ∈ lw_all := lw_g (lw_at lw_m6 132 rfl) rfl
theorem q1397 : (Jvm.Cond.lays "TraceWardenModel" "TraceWardenModel" "state" "I") ∈ lw_all := lw_g (lw_at lw_m6 133 rfl) rfl
theorem q1398 : (Jvm.Cond.soleField "TraceWardenModel" "state") ∈ lw_all := lw_g (lw_at lw_m6 134 rfl) rfl
theorem q1399 : (Jvm.Cond.laysFinal "TraceWardenModel" "TraceWardenModel" "letters" "[I") ∈ lw_all := lw_g (lw_at lw_m6 135 rfl) rfl
theorem q1400 : (Jvm.Cond.soleField "TraceWardenModel" "letters") ∈ lw_all := lw_g (lw_at lw_m6 136 rfl) rfl
theorem q1401 : (Jvm.Cond.laysFinal "TraceWardenModel" "TraceWardenModel" "told" "[C") ∈ lw_all := lw_g (lw_at lw_m6 137 rfl) rfl
theorem q1402 : (Jvm.Cond.soleField "TraceWardenModel" "told") ∈ lw_all := lw_g (lw_at lw_m6 138 rfl) rfl
theorem q1403 : (Jvm.Cond.lays "TraceWardenModel" "TraceWardenModel" "told0" "I") ∈ lw_all := lw_g (lw_at lw_m6 139 rfl) rfl
theorem q1404 : (Jvm.Cond.soleField "TraceWardenModel" "told0") ∈ lw_all := lw_g (lw_at lw_m6 140 rfl) rfl
theorem q1405 : (Jvm.Cond.superclass "TraceWardenModel" "java/lang/Object") ∈ lw_all := lw_g (lw_at lw_m6 141 rfl) rfl
theorem q1408 : (Jvm.Cond.instanceMethod ({ cls := "TraceWardenModel", name := "thrown", desc := "()I" } : Jvm.MethodName)) ∈ lw_all := lw_g (lw_at lw_m6 144 rfl) rfl
theorem q1409 : (Jvm.Cond.selects "TraceWardenModel" ({ cls := "TraceWardenModel", name := "thrown", desc := "()I" } : Jvm.MethodName) ({ cls := "TraceWardenModel", name := "thrown", desc := "()I" } : Jvm.MethodName)) ∈ lw_all := lw_g (lw_at lw_m6 145 rfl) rfl
theorem q1410 : (Jvm.Cond.code ({ cls := "TraceWardenModel", name := "thrown", desc := "()I" } : Jvm.MethodName) prog_12_method_2_code (1 : Nat) (Option.some Jvm.ClassFile.FieldType.int)) ∈ lw_all := lw_g (lw_at lw_m6 146 rfl) rfl
theorem q1412 : (Jvm.Cond.instanceMethod ({ cls := "TraceWardenModel", name := "text", desc := "(J)I" } : Jvm.MethodName)) ∈ lw_all := lw_g (lw_at lw_m6 148 rfl) rfl
theorem q1413 : (Jvm.Cond.selects "TraceWardenModel" ({ cls := "TraceWardenModel", name := "text", desc := "(J)I" } : Jvm.MethodName) ({ cls := "TraceWardenModel", name := "text", desc := "(J)I" } : Jvm.MethodName)) ∈ lw_all := lw_g (lw_at lw_m6 149 rfl) rfl
theorem q1414 : (Jvm.Cond.code ({ cls := "TraceWardenModel", name := "text", desc := "(J)I" } : Jvm.MethodName) prog_12_method_4_code (6 : Nat) (Option.some Jvm.ClassFile.FieldType.int)) ∈ lw_all := lw_g (lw_at lw_m6 150 rfl) rfl
theorem q1415 : (Jvm.Cond.constantLong "TraceWardenModel" (131 : Nat) (255 : Int64)) ∈ lw_all := lw_g (lw_at lw_m6 151 rfl) rfl
theorem q1417 : (Jvm.Cond.instanceMethod ({ cls := "TraceWardenModel", name := "wipe", desc := "()V" } : Jvm.MethodName)) ∈ lw_all := lw_g (lw_at lw_m6 153 rfl) rfl
theorem q1418 : (Jvm.Cond.selects "TraceWardenModel" ({ cls := "TraceWardenModel", name := "wipe", desc := "()V" } : Jvm.MethodName) ({ cls := "TraceWardenModel", name := "wipe", desc := "()V" } : Jvm.MethodName)) ∈ lw_all := lw_g (lw_at lw_m6 154 rfl) rfl
theorem q1419 : (Jvm.Cond.code ({ cls := "TraceWardenModel", name := "wipe", desc := "()V" } : Jvm.MethodName) prog_12_method_5_code (1 : Nat) (Option.none : Option Jvm.ClassFile.FieldType)) ∈ lw_all := lw_g (lw_at lw_m6 155 rfl) rfl
theorem q1421 : (Jvm.Cond.instanceMethod ({ cls := "TraceWardenModel", name := "fault", desc := "()I" } : Jvm.MethodName)) ∈ lw_all := lw_g (lw_at lw_m6 157 rfl) rfl
theorem q1422 : (Jvm.Cond.selects "TraceWardenModel" ({ cls := "TraceWardenModel", name := "fault", desc := "()I" } : Jvm.MethodName) ({ cls := "TraceWardenModel", name := "fault", desc := "()I" } : Jvm.MethodName)) ∈ lw_all := lw_g (lw_at lw_m6 158 rfl) rfl
theorem q1423 : (Jvm.Cond.code ({ cls := "TraceWardenModel", name := "fault", desc := "()I" } : Jvm.MethodName) prog_12_method_6_code (1 : Nat) (Option.some Jvm.ClassFile.FieldType.int)) ∈ lw_all := lw_g (lw_at lw_m6 159 rfl) rfl
theorem q1425 : (Jvm.Cond.instanceMethod ({ cls := "TraceWardenModel", name := "compile", desc := "()I" } : Jvm.MethodName)) ∈ lw_all := lw_g (lw_at lw_m6 161 rfl) rfl
theorem q1426 : (Jvm.Cond.selects "TraceWardenModel" ({ cls := "TraceWardenModel", name := "compile", desc := "()I" } : Jvm.MethodName) ({ cls := "TraceWardenModel", name := "compile", desc := "()I" } : Jvm.MethodName)) ∈ lw_all := lw_g (lw_at lw_m6 162 rfl) rfl
theorem q1427 : (Jvm.Cond.code ({ cls := "TraceWardenModel", name := "compile", desc := "()I" } : Jvm.MethodName) prog_12_method_45_code (1 : Nat) (Option.some Jvm.ClassFile.FieldType.int)) ∈ lw_all := lw_g (lw_at lw_m6 163 rfl) rfl
theorem q1428 : (Jvm.Cond.methodLink "TraceWardenModel" (275 : Nat) ({ cls := "TraceWardenModel", name := "read", desc := "()V" } : Jvm.MethodName)) ∈ lw_all := lw_g (lw_at lw_m6 164 rfl) rfl
theorem q1429 : (Jvm.Cond.privateMethod ({ cls := "TraceWardenModel", name := "read", desc := "()V" } : Jvm.MethodName)) ∈ lw_tbl := lw_at lw_m6 165 rfl
theorem q1430 : (Jvm.Cond.instanceMethod ({ cls := "TraceWardenModel", name := "read", desc := "()V" } : Jvm.MethodName)) ∈ lw_all := lw_g (lw_at lw_m6 166 rfl) rfl
theorem q1431 : (Jvm.Cond.code ({ cls := "TraceWardenModel", name := "read", desc := "()V" } : Jvm.MethodName) prog_12_method_12_code (1 : Nat) (Option.none : Option Jvm.ClassFile.FieldType)) ∈ lw_all := lw_g (lw_at lw_m6 167 rfl) rfl
theorem q1432 : (Jvm.Cond.methodLink "TraceWardenModel" (149 : Nat) ({ cls := "TraceWardenModel", name := "expect", desc := "(III)V" } : Jvm.MethodName)) ∈ lw_all := lw_g (lw_at lw_m6 168 rfl) rfl
theorem q1433 : (Jvm.Cond.privateMethod ({ cls := "TraceWardenModel", name := "expect", desc := "(III)V" } : Jvm.MethodName)) ∈ lw_tbl := lw_at lw_m6 169 rfl
theorem q1434 : (Jvm.Cond.instanceMethod ({ cls := "TraceWardenModel", name := "expect", desc := "(III)V" } : Jvm.MethodName)) ∈ lw_all := lw_g (lw_at lw_m6 170 rfl) rfl
theorem q1435 : (Jvm.Cond.code ({ cls := "TraceWardenModel", name := "expect", desc := "(III)V" } : Jvm.MethodName) prog_12_method_8_code (4 : Nat) (Option.none : Option Jvm.ClassFile.FieldType)) ∈ lw_all := lw_g (lw_at lw_m6 171 rfl) rfl
theorem q1436 : (Jvm.Cond.methodLink "TraceWardenModel" (153 : Nat) ({ cls := "TraceWardenModel", name := "take", desc := "(III)V" } : Jvm.MethodName)) ∈ lw_all := lw_g (lw_at lw_m6 172 rfl) rfl
theorem q1437 : (Jvm.Cond.privateMethod ({ cls := "TraceWardenModel", name := "take", desc := "(III)V" } : Jvm.MethodName)) ∈ lw_tbl := lw_at lw_m6 173 rfl
theorem q1438 : (Jvm.Cond.instanceMethod ({ cls := "TraceWardenModel", name := "take", desc := "(III)V" } : Jvm.MethodName)) ∈ lw_all := lw_g (lw_at lw_m6 174 rfl) rfl
theorem q1439 : (Jvm.Cond.code ({ cls := "TraceWardenModel", name := "take", desc := "(III)V" } : Jvm.MethodName) prog_12_method_13_code (5 : Nat) (Option.none : Option Jvm.ClassFile.FieldType)) ∈ lw_all := lw_g (lw_at lw_m6 175 rfl) rfl
theorem q1440 : (Jvm.Cond.methodLink "TraceWardenModel" (156 : Nat) ({ cls := "TraceWardenModel", name := "now", desc := "()C" } : Jvm.MethodName)) ∈ lw_all := lw_g (lw_at lw_m6 176 rfl) rfl
theorem q1441 : (Jvm.Cond.privateMethod ({ cls := "TraceWardenModel", name := "now", desc := "()C" } : Jvm.MethodName)) ∈ lw_tbl := lw_at lw_m6 177 rfl
theorem q1442 : (Jvm.Cond.instanceMethod ({ cls := "TraceWardenModel", name := "now", desc := "()C" } : Jvm.MethodName)) ∈ lw_all := lw_g (lw_at lw_m6 178 rfl) rfl
theorem q1443 : (Jvm.Cond.code ({ cls := "TraceWardenModel", name := "now", desc := "()C" } : Jvm.MethodName) prog_12_method_7_code (1 : Nat) (Option.some Jvm.ClassFile.FieldType.char)) ∈ lw_all := lw_g (lw_at lw_m6 179 rfl) rfl
theorem q1444 : (Jvm.Cond.methodLink "TraceWardenModel" (160 : Nat) ({ cls := "TraceWardenModel", name := "sprout", desc := "(IIIC)V" } : Jvm.MethodName)) ∈ lw_all := lw_g (lw_at lw_m6 180 rfl) rfl
theorem q1445 : (Jvm.Cond.privateMethod ({ cls := "TraceWardenModel", name := "sprout", desc := "(IIIC)V" } : Jvm.MethodName)) ∈ lw_tbl := lw_at lw_m6 181 rfl
theorem q1446 : (Jvm.Cond.instanceMethod ({ cls := "TraceWardenModel", name := "sprout", desc := "(IIIC)V" } : Jvm.MethodName)) ∈ lw_all := lw_g (lw_at lw_m6 182 rfl) rfl
theorem q1447 : (Jvm.Cond.code ({ cls := "TraceWardenModel", name := "sprout", desc := "(IIIC)V" } : Jvm.MethodName) prog_12_method_14_code (9 : Nat) (Option.none : Option Jvm.ClassFile.FieldType)) ∈ lw_all := lw_g (lw_at lw_m6 183 rfl) rfl
theorem q1448 : (Jvm.Cond.methodLink "TraceWardenModel" (176 : Nat) ({ cls := "TraceWardenModel", name := "literal", desc := "(C)I" } : Jvm.MethodName)) ∈ lw_all := lw_g (lw_at lw_m6 184 rfl) rfl
theorem q1449 : (Jvm.Cond.static ({ cls := "TraceWardenModel", name := "literal", desc := "(C)I" } : Jvm.MethodName)) ∈ lw_all := lw_g (lw_at lw_m6 185 rfl) rfl
theorem q1450 : (Jvm.Cond.code ({ cls := "TraceWardenModel", name := "literal", desc := "(C)I" } : Jvm.MethodName) prog_12_method_11_code (1 : Nat) (Option.some Jvm.ClassFile.FieldType.int)) ∈ lw_all := lw_g (lw_at lw_m6 186 rfl) rfl
theorem q1451 : (Jvm.Cond.methodLink "TraceWardenModel" (180 : Nat) ({ cls := "TraceWardenModel", name := "node", desc := "(I)I" } : Jvm.MethodName)) ∈ lw_all := lw_g (lw_at lw_m6 187 rfl) rfl
theorem q1452 : (Jvm.Cond.privateMethod ({ cls := "TraceWardenModel", name := "node", desc := "(I)I" } : Jvm.MethodName)) ∈ lw_tbl := lw_at lw_m6 188 rfl
theorem q1453 : (Jvm.Cond.instanceMethod ({ cls := "TraceWardenModel", name := "node", desc := "(I)I" } : Jvm.MethodName)) ∈ lw_all := lw_g (lw_at lw_m6 189 rfl) rfl
theorem q1454 : (Jvm.Cond.code ({ cls := "TraceWardenModel", name := "node", desc := "(I)I" } : Jvm.MethodName) prog_12_method_9_code (2 : Nat) (Option.some Jvm.ClassFile.FieldType.int)) ∈ lw_all := lw_g (lw_at lw_m6 190 rfl) rfl
theorem q1455 : (Jvm.Cond.methodLink "TraceWardenModel" (184 : Nat) ({ cls := "TraceWardenModel", name := "hang", desc := "(II)V" } : Jvm.MethodName)) ∈ lw_all := lw_g (lw_at lw_m6 191 rfl) rfl
theorem q1456 : (Jvm.Cond.privateMethod ({ cls := "TraceWardenModel", name := "hang", desc := "(II)V" } : Jvm.MethodName)) ∈ lw_tbl := lw_at lw_m6 192 rfl
theorem q1457 : (Jvm.Cond.instanceMethod ({ cls := "TraceWardenModel", name := "hang", desc := "(II)V" } : Jvm.MethodName)) ∈ lw_all := lw_g (lw_at lw_m6 193 rfl) rfl
theorem q1458 : (Jvm.Cond.code ({ cls := "TraceWardenModel", name := "hang", desc := "(II)V" } : Jvm.MethodName) prog_12_method_10_code (3 : Nat) (Option.none : Option Jvm.ClassFile.FieldType)) ∈ lw_all := lw_g (lw_at lw_m6 194 rfl) rfl
theorem q1459 : (Jvm.Cond.methodLink "TraceWardenModel" (164 : Nat) ({ cls := "TraceWardenModel", name := "piece", desc := "(IIC)V" } : Jvm.MethodName)) ∈ lw_all := lw_g (lw_at lw_m6 195 rfl) rfl
theorem q1460 : (Jvm.Cond.privateMethod ({ cls := "TraceWardenModel", name := "piece", desc := "(IIC)V" } : Jvm.MethodName)) ∈ lw_tbl := lw_at lw_m6 196 rfl
theorem q1461 : (Jvm.Cond.instanceMethod ({ cls := "TraceWardenModel", name := "piece", desc := "(IIC)V" } : Jvm.MethodName)) ∈ lw_all := lw_g (lw_at lw_m6 197 rfl) rfl
theorem q1462 : (Jvm.Cond.code ({ cls := "TraceWardenModel", name := "piece", desc := "(IIC)V" } : Jvm.MethodName) prog_12_method_15_code (7 : Nat) (Option.none : Option Jvm.ClassFile.FieldType)) ∈ lw_all := lw_g (lw_at lw_m6 198 rfl) rfl
theorem q1463 : (Jvm.Cond.methodLink "TraceWardenModel" (172 : Nat) ({ cls := "TraceWardenModel", name := "sequences", desc := "(II)V" } : Jvm.MethodName)) ∈ lw_all := lw_g (lw_at lw_m6 199 rfl) rfl
theorem q1464 : (Jvm.Cond.privateMethod ({ cls := "TraceWardenModel", name := "sequences", desc := "(II)V" } : Jvm.MethodName)) ∈ lw_tbl := lw_at lw_m6 200 rfl
theorem q1465 : (Jvm.Cond.instanceMethod ({ cls := "TraceWardenModel", name := "sequences", desc := "(II)V" } : Jvm.MethodName)) ∈ lw_all := lw_g (lw_at lw_m6 201 rfl) rfl
theorem q1466 : (Jvm.Cond.code ({ cls := "TraceWardenModel", name := "sequences", desc := "(II)V" } : Jvm.MethodName) prog_12_method_16_code (5 : Nat) (Option.none : Option Jvm.ClassFile.FieldType)) ∈ lw_all := lw_g (lw_at lw_m6 202 rfl) rfl
theorem q1467 : (Jvm.Cond.methodLink "TraceWardenModel" (168 : Nat) ({ cls := "TraceWardenModel", name := "times", desc := "(IC)V" } : Jvm.MethodName)) ∈ lw_all := lw_g (lw_at lw_m6 203 rfl) rfl
theorem q1468 : (Jvm.Cond.privateMethod ({ cls := "TraceWardenModel", name := "times", desc := "(IC)V" } : Jvm.MethodName)) ∈ lw_tbl := lw_at lw_m6 204 rfl
theorem q1469 : (Jvm.Cond.instanceMethod ({ cls := "TraceWardenModel", name := "times", desc := "(IC)V" } : Jvm.MethodName)) ∈ lw_all := lw_g (lw_at lw_m6 205 rfl) rfl
theorem q1470 : (Jvm.Cond.code ({ cls := "TraceWardenModel", name := "times", desc := "(IC)V" } : Jvm.MethodName) prog_12_method_17_code (5 : Nat) (Option.none : Option Jvm.ClassFile.FieldType)) ∈ lw_all := lw_g (lw_at lw_m6 206 rfl) rfl
theorem q1471 : (Jvm.Cond.methodLink "TraceWardenModel" (278 : Nat) ({ cls := "TraceWardenModel", name := "raise", desc := "(I)I" } : Jvm.MethodName)) ∈ lw_all := lw_g (lw_at lw_m6 207 rfl) rfl
theorem q1472 : (Jvm.Cond.privateMethod ({ cls := "TraceWardenModel", name := "raise", desc := "(I)I" } : Jvm.MethodName)) ∈ lw_tbl := lw_at lw_m6 208 rfl
theorem q1473 : (Jvm.Cond.instanceMethod ({ cls := "TraceWardenModel", name := "raise", desc := "(I)I" } : Jvm.MethodName)) ∈ lw_all := lw_g (lw_at lw_m6 209 rfl) rfl
theorem q1474 : (Jvm.Cond.code ({ cls := "TraceWardenModel", name := "raise", desc := "(I)I" } : Jvm.MethodName) prog_12_method_3_code (2 : Nat) (Option.some Jvm.ClassFile.FieldType.int)) ∈ lw_all := lw_g (lw_at lw_m6 210 rfl) rfl
theorem q1475 : (Jvm.Cond.methodLink "TraceWardenModel" (281 : Nat) ({ cls := "TraceWardenModel", name := "collect", desc := "()V" } : Jvm.MethodName)) ∈ lw_all := lw_g (lw_at lw_m6 211 rfl) rfl
theorem q1476 : (Jvm.Cond.privateMethod ({ cls := "TraceWardenModel", name := "collect", desc := "()V" } : Jvm.MethodName)) ∈ lw_tbl := lw_at lw_m6 212 rfl
theorem q1477 : (Jvm.Cond.instanceMethod ({ cls := "TraceWardenModel", name := "collect", desc := "()V" } : Jvm.MethodName)) ∈ lw_all := lw_g (lw_at lw_m6 213 rfl) rfl
theorem q1478 : (Jvm.Cond.code ({ cls := "TraceWardenModel", name := "collect", desc := "()V" } : Jvm.MethodName) prog_12_method_19_code (2 : Nat) (Option.none : Option Jvm.ClassFile.FieldType)) ∈ lw_all := lw_g (lw_at lw_m6 214 rfl) rfl
theorem q1479 : (Jvm.Cond.methodLink "TraceWardenModel" (190 : Nat) ({ cls := "TraceWardenModel", name := "oblige", desc := "(I)V" } : Jvm.MethodName)) ∈ lw_all := lw_g (lw_at lw_m6 215 rfl) rfl
theorem q1480 : (Jvm.Cond.privateMethod ({ cls := "TraceWardenModel", name := "oblige", desc := "(I)V" } : Jvm.MethodName)) ∈ lw_tbl := lw_at lw_m6 216 rfl
theorem q1481 : (Jvm.Cond.instanceMethod ({ cls := "TraceWardenModel", name := "oblige", desc := "(I)V" } : Jvm.MethodName)) ∈ lw_all := lw_g (lw_at lw_m6 217 rfl) rfl
theorem q1482 : (Jvm.Cond.code ({ cls := "TraceWardenModel", name := "oblige", desc := "(I)V" } : Jvm.MethodName) prog_12_method_18_code (2 : Nat) (Option.none : Option Jvm.ClassFile.FieldType)) ∈ lw_all := lw_g (lw_at lw_m6 218 rfl) rfl
theorem q1483 : (Jvm.Cond.methodLink "TraceWardenModel" (194 : Nat) ({ cls := "TraceWardenModel", name := "unroll", desc := "(I)V" } : Jvm.MethodName)) ∈ lw_all := lw_g (lw_at lw_m6 219 rfl) rfl
theorem q1484 : (Jvm.Cond.privateMethod ({ cls := "TraceWardenModel", name := "unroll", desc := "(I)V" } : Jvm.MethodName)) ∈ lw_tbl := lw_at lw_m6 220 rfl
theorem q1485 : (Jvm.Cond.instanceMethod ({ cls := "TraceWardenModel", name := "unroll", desc := "(I)V" } : Jvm.MethodName)) ∈ lw_all := lw_g (lw_at lw_m6 221 rfl) rfl
theorem q1486 : (Jvm.Cond.code ({ cls := "TraceWardenModel", name := "unroll", desc := "(I)V" } : Jvm.MethodName) prog_12_method_22_code (4 : Nat) (Option.none : Option Jvm.ClassFile.FieldType)) ∈ lw_all := lw_g (lw_at lw_m6 222 rfl) rfl
theorem q1487 : (Jvm.Cond.methodLink "TraceWardenModel" (203 : Nat) ({ cls := "TraceWardenModel", name := "enter", desc := "(I)V" } : Jvm.MethodName)) ∈ lw_all := lw_g (lw_at lw_m6 223 rfl) rfl
theorem q1488 : (Jvm.Cond.privateMethod ({ cls := "TraceWardenModel", name := "enter", desc := "(I)V" } : Jvm.MethodName)) ∈ lw_tbl := lw_at lw_m6 224 rfl
theorem q1489 : (Jvm.Cond.instanceMethod ({ cls := "TraceWardenModel", name := "enter", desc := "(I)V" } : Jvm.MethodName)) ∈ lw_all := lw_g (lw_at lw_m6 225 rfl) rfl
theorem q1490 : (Jvm.Cond.code ({ cls := "TraceWardenModel", name := "enter", desc := "(I)V" } : Jvm.MethodName) prog_12_method_20_code (2 : Nat) (Option.none : Option Jvm.ClassFile.FieldType)) ∈ lw_all := lw_g (lw_at lw_m6 226 rfl) rfl
theorem q1491 : (Jvm.Cond.methodLink "TraceWardenModel" (206 : Nat) ({ cls := "TraceWardenModel", name := "list", desc := "(I)V" } : Jvm.MethodName)) ∈ lw_all := lw_g (lw_at lw_m6 227 rfl) rfl
theorem q1492 : (Jvm.Cond.privateMethod ({ cls := "TraceWardenModel", name := "list", desc := "(I)V" } : Jvm.MethodName)) ∈ lw_tbl := lw_at lw_m6 228 rfl
theorem q1493 : (Jvm.Cond.instanceMethod ({ cls := "TraceWardenModel", name := "list", desc := "(I)V" } : Jvm.MethodName)) ∈ lw_all := lw_g (lw_at lw_m6 229 rfl) rfl
theorem q1494 : (Jvm.Cond.code ({ cls := "TraceWardenModel", name := "list", desc := "(I)V" } : Jvm.MethodName) prog_12_method_25_code (6 : Nat) (Option.none : Option Jvm.ClassFile.FieldType)) ∈ lw_all := lw_g (lw_at lw_m6 230 rfl) rfl
theorem q1495 : (Jvm.Cond.methodLink "TraceWardenModel" (218 : Nat) ({ cls := "TraceWardenModel", name := "follow", desc := "(II)V" } : Jvm.MethodName)) ∈ lw_all := lw_g (lw_at lw_m6 231 rfl) rfl
theorem q1496 : (Jvm.Cond.privateMethod ({ cls := "TraceWardenModel", name := "follow", desc := "(II)V" } : Jvm.MethodName)) ∈ lw_tbl := lw_at lw_m6 232 rfl
theorem q1497 : (Jvm.Cond.instanceMethod ({ cls := "TraceWardenModel", name := "follow", desc := "(II)V" } : Jvm.MethodName)) ∈ lw_all := lw_g (lw_at lw_m6 233 rfl) rfl
theorem q1498 : (Jvm.Cond.code ({ cls := "TraceWardenModel", name := "follow", desc := "(II)V" } : Jvm.MethodName) prog_12_method_24_code (4 : Nat) (Option.none : Option Jvm.ClassFile.FieldType)) ∈ lw_all := lw_g (lw_at lw_m6 234 rfl) rfl
theorem q1499 : (Jvm.Cond.methodLink "TraceWardenModel" (209 : Nat) ({ cls := "TraceWardenModel", name := "copy", desc := "(I)V" } : Jvm.MethodName)) ∈ lw_all := lw_g (lw_at lw_m6 235 rfl) rfl
theorem q1500 : (Jvm.Cond.privateMethod ({ cls := "TraceWardenModel", name := "copy", desc := "(I)V" } : Jvm.MethodName)) ∈ lw_tbl := lw_at lw_m6 236 rfl
theorem q1501 : (Jvm.Cond.instanceMethod ({ cls := "TraceWardenModel", name := "copy", desc := "(I)V" } : Jvm.MethodName)) ∈ lw_all := lw_g (lw_at lw_m6 237 rfl) rfl
theorem q1502 : (Jvm.Cond.code ({ cls := "TraceWardenModel", name := "copy", desc := "(I)V" } : Jvm.MethodName) prog_12_method_26_code (6 : Nat) (Option.none : Option Jvm.ClassFile.FieldType)) ∈ lw_all := lw_g (lw_at lw_m6 238 rfl) rfl
theorem q1503 : (Jvm.Cond.methodLink "TraceWardenModel" (212 : Nat) ({ cls := "TraceWardenModel", name := "place", desc := "(II)V" } : Jvm.MethodName)) ∈ lw_all := lw_g (lw_at lw_m6 239 rfl) rfl
theorem q1504 : (Jvm.Cond.privateMethod ({ cls := "TraceWardenModel", name := "place", desc := "(II)V" } : Jvm.MethodName)) ∈ lw_tbl := lw_at lw_m7 0 rfl
theorem q1505 : (Jvm.Cond.instanceMethod ({ cls := "TraceWardenModel", name := "place", desc := "(II)V" } : Jvm.MethodName)) ∈ lw_all := lw_g (lw_at lw_m7 1 rfl) rfl
theorem q1506 : (Jvm.Cond.code ({ cls := "TraceWardenModel", name := "place", desc := "(II)V" } : Jvm.MethodName) prog_12_method_23_code (3 : Nat) (Option.none : Option Jvm.ClassFile.FieldType)) ∈ lw_all := lw_g (lw_at lw_m7 2 rfl) rfl
theorem q1507 : (Jvm.Cond.methodLink "TraceWardenModel" (215 : Nat) ({ cls := "TraceWardenModel", name := "push", desc := "(II)V" } : Jvm.MethodName)) ∈ lw_all := lw_g (lw_at lw_m7 3 rfl) rfl
theorem q1508 : (Jvm.Cond.privateMethod ({ cls := "TraceWardenModel", name := "push", desc := "(II)V" } : Jvm.MethodName)) ∈ lw_tbl := lw_at lw_m7 4 rfl
theorem q1509 : (Jvm.Cond.instanceMethod ({ cls := "TraceWardenModel", name := "push", desc := "(II)V" } : Jvm.MethodName)) ∈ lw_all := lw_g (lw_at lw_m7 5 rfl) rfl
theorem q1510 : (Jvm.Cond.code ({ cls := "TraceWardenModel", name := "push", desc := "(II)V" } : Jvm.MethodName) prog_12_method_21_code (3 : Nat) (Option.none : Option Jvm.ClassFile.FieldType)) ∈ lw_all := lw_g (lw_at lw_m7 6 rfl) rfl
theorem q1511 : (Jvm.Cond.methodLink "TraceWardenModel" (284 : Nat) ({ cls := "TraceWardenModel", name := "gather", desc := "()Z" } : Jvm.MethodName)) ∈ lw_all := lw_g (lw_at lw_m7 7 rfl) rfl
theorem q1512 : (Jvm.Cond.privateMethod ({ cls := "TraceWardenModel", name := "gather", desc := "()Z" } : Jvm.MethodName)) ∈ lw_tbl := lw_at lw_m7 8 rfl
theorem q1513 : (Jvm.Cond.instanceMethod ({ cls := "TraceWardenModel", name := "gather", desc := "()Z" } : Jvm.MethodName)) ∈ lw_all := lw_g (lw_at lw_m7 9 rfl) rfl
theorem q1514 : (Jvm.Cond.code ({ cls := "TraceWardenModel", name := "gather", desc := "()Z" } : Jvm.MethodName) prog_12_method_36_code (3 : Nat) (Option.some Jvm.ClassFile.FieldType.boolean)) ∈ lw_all := lw_g (lw_at lw_m7 10 rfl) rfl
theorem q1515 : (Jvm.Cond.methodLink "TraceWardenModel" (249 : Nat) ({ cls := "TraceWardenModel", name := "satisfied", desc := "(II)I" } : Jvm.MethodName)) ∈ lw_all := lw_g (lw_at lw_m7 11 rfl) rfl
theorem q1516 : (Jvm.Cond.privateMethod ({ cls := "TraceWardenModel", name := "satisfied", desc := "(II)I" } : Jvm.MethodName)) ∈ lw_tbl := lw_at lw_m7 12 rfl
theorem q1517 : (Jvm.Cond.instanceMethod ({ cls := "TraceWardenModel", name := "satisfied", desc := "(II)I" } : Jvm.MethodName)) ∈ lw_all := lw_g (lw_at lw_m7 13 rfl) rfl
theorem q1518 : (Jvm.Cond.code ({ cls := "TraceWardenModel", name := "satisfied", desc := "(II)I" } : Jvm.MethodName) prog_12_method_28_code (6 : Nat) (Option.some Jvm.ClassFile.FieldType.int)) ∈ lw_all := lw_g (lw_at lw_m7 14 rfl) rfl
theorem q1519 : (Jvm.Cond.methodLink "TraceWardenModel" (221 : Nat) ({ cls := "TraceWardenModel", name := "asks", desc := "(III)Z" } : Jvm.MethodName)) ∈ lw_all := lw_g (lw_at lw_m7 15 rfl) rfl
theorem q1520 : (Jvm.Cond.privateMethod ({ cls := "TraceWardenModel", name := "asks", desc := "(III)Z" } : Jvm.MethodName)) ∈ lw_tbl := lw_at lw_m7 16 rfl
theorem q1521 : (Jvm.Cond.instanceMethod ({ cls := "TraceWardenModel", name := "asks", desc := "(III)Z" } : Jvm.MethodName)) ∈ lw_all := lw_g (lw_at lw_m7 17 rfl) rfl
theorem q1522 : (Jvm.Cond.code ({ cls := "TraceWardenModel", name := "asks", desc := "(III)Z" } : Jvm.MethodName) prog_12_method_31_code (4 : Nat) (Option.some Jvm.ClassFile.FieldType.boolean)) ∈ lw_all := lw_g (lw_at lw_m7 18 rfl) rfl
theorem q1523 : (Jvm.Cond.methodLink "TraceWardenModel" (229 : Nat) ({ cls := "TraceWardenModel", name := "literally", desc := "(II)Z" } : Jvm.MethodName)) ∈ lw_all := lw_g (lw_at lw_m7 19 rfl) rfl
theorem q1524 : (Jvm.Cond.static ({ cls := "TraceWardenModel", name := "literally", desc := "(II)Z" } : Jvm.MethodName)) ∈ lw_all := lw_g (lw_at lw_m7 20 rfl) rfl
theorem q1525 : (Jvm.Cond.code ({ cls := "TraceWardenModel", name := "literally", desc := "(II)Z" } : Jvm.MethodName) prog_12_method_27_code (2 : Nat) (Option.some Jvm.ClassFile.FieldType.boolean)) ∈ lw_all := lw_g (lw_at lw_m7 21 rfl) rfl
theorem q1526 : (Jvm.Cond.methodLink "TraceWardenModel" (233 : Nat) ({ cls := "TraceWardenModel", name := "has", desc := "(II)Z" } : Jvm.MethodName)) ∈ lw_all := lw_g (lw_at lw_m7 22 rfl) rfl
theorem q1527 : (Jvm.Cond.privateMethod ({ cls := "TraceWardenModel", name := "has", desc := "(II)Z" } : Jvm.MethodName)) ∈ lw_tbl := lw_at lw_m7 23 rfl
theorem q1528 : (Jvm.Cond.instanceMethod ({ cls := "TraceWardenModel", name := "has", desc := "(II)Z" } : Jvm.MethodName)) ∈ lw_all := lw_g (lw_at lw_m7 24 rfl) rfl
theorem q1529 : (Jvm.Cond.code ({ cls := "TraceWardenModel", name := "has", desc := "(II)Z" } : Jvm.MethodName) prog_12_method_30_code (3 : Nat) (Option.some Jvm.ClassFile.FieldType.boolean)) ∈ lw_all := lw_g (lw_at lw_m7 25 rfl) rfl
theorem q1530 : (Jvm.Cond.methodLink "TraceWardenModel" (236 : Nat) ({ cls := "TraceWardenModel", name := "places", desc := "(IIZ)Z" } : Jvm.MethodName)) ∈ lw_all := lw_g (lw_at lw_m7 26 rfl) rfl
theorem q1531 : (Jvm.Cond.privateMethod ({ cls := "TraceWardenModel", name := "places", desc := "(IIZ)Z" } : Jvm.MethodName)) ∈ lw_tbl := lw_at lw_m7 27 rfl
theorem q1532 : (Jvm.Cond.instanceMethod ({ cls := "TraceWardenModel", name := "places", desc := "(IIZ)Z" } : Jvm.MethodName)) ∈ lw_all := lw_g (lw_at lw_m7 28 rfl) rfl
theorem q1533 : (Jvm.Cond.code ({ cls := "TraceWardenModel", name := "places", desc := "(IIZ)Z" } : Jvm.MethodName) prog_12_method_32_code (6 : Nat) (Option.some Jvm.ClassFile.FieldType.boolean)) ∈ lw_all := lw_g (lw_at lw_m7 29 rfl) rfl
theorem q1534 : (Jvm.Cond.methodLink "TraceWardenModel" (225 : Nat) ({ cls := "TraceWardenModel", name := "isPlace", desc := "(I)Z" } : Jvm.MethodName)) ∈ lw_all := lw_g (lw_at lw_m7 30 rfl) rfl
theorem q1535 : (Jvm.Cond.privateMethod ({ cls := "TraceWardenModel", name := "isPlace", desc := "(I)Z" } : Jvm.MethodName)) ∈ lw_tbl := lw_at lw_m7 31 rfl
theorem q1536 : (Jvm.Cond.instanceMethod ({ cls := "TraceWardenModel", name := "isPlace", desc := "(I)Z" } : Jvm.MethodName)) ∈ lw_all := lw_g (lw_at lw_m7 32 rfl) rfl
theorem q1537 : (Jvm.Cond.code ({ cls := "TraceWardenModel", name := "isPlace", desc := "(I)Z" } : Jvm.MethodName) prog_12_method_29_code (2 : Nat) (Option.some Jvm.ClassFile.FieldType.boolean)) ∈ lw_all := lw_g (lw_at lw_m7 33 rfl) rfl
theorem q1538 : (Jvm.Cond.methodLink "TraceWardenModel" (253 : Nat) ({ cls := "TraceWardenModel", name := "after", desc := "(II)I" } : Jvm.MethodName)) ∈ lw_all := lw_g (lw_at lw_m7 34 rfl) rfl
theorem q1539 : (Jvm.Cond.privateMethod ({ cls := "TraceWardenModel", name := "after", desc := "(II)I" } : Jvm.MethodName)) ∈ lw_tbl := lw_at lw_m7 35 rfl
theorem q1540 : (Jvm.Cond.instanceMethod ({ cls := "TraceWardenModel", name := "after", desc := "(II)I" } : Jvm.MethodName)) ∈ lw_all := lw_g (lw_at lw_m7 36 rfl) rfl
theorem q1541 : (Jvm.Cond.code ({ cls := "TraceWardenModel", name := "after", desc := "(II)I" } : Jvm.MethodName) prog_12_method_34_code (5 : Nat) (Option.some Jvm.ClassFile.FieldType.int)) ∈ lw_all := lw_g (lw_at lw_m7 37 rfl) rfl
theorem q1542 : (Jvm.Cond.methodLink "TraceWardenModel" (243 : Nat) ({ cls := "TraceWardenModel", name := "marked", desc := "(II)Z" } : Jvm.MethodName)) ∈ lw_all := lw_g (lw_at lw_m7 38 rfl) rfl
theorem q1543 : (Jvm.Cond.privateMethod ({ cls := "TraceWardenModel", name := "marked", desc := "(II)Z" } : Jvm.MethodName)) ∈ lw_tbl := lw_at lw_m7 39 rfl
theorem q1544 : (Jvm.Cond.instanceMethod ({ cls := "TraceWardenModel", name := "marked", desc := "(II)Z" } : Jvm.MethodName)) ∈ lw_all := lw_g (lw_at lw_m7 40 rfl) rfl
theorem q1545 : (Jvm.Cond.code ({ cls := "TraceWardenModel", name := "marked", desc := "(II)Z" } : Jvm.MethodName) prog_12_method_33_code (3 : Nat) (Option.some Jvm.ClassFile.FieldType.boolean)) ∈ lw_all := lw_g (lw_at lw_m7 41 rfl) rfl
theorem q1546 : (Jvm.Cond.methodLink "TraceWardenModel" (246 : Nat) ({ cls := "TraceWardenModel", name := "known", desc := "(I)I" } : Jvm.MethodName)) ∈ lw_all := lw_g (lw_at lw_m7 42 rfl) rfl
theorem q1547 : (Jvm.Cond.privateMethod ({ cls := "TraceWardenModel", name := "known", desc := "(I)I" } : Jvm.MethodName)) ∈ lw_tbl := lw_at lw_m7 43 rfl
theorem q1548 : (Jvm.Cond.instanceMethod ({ cls := "TraceWardenModel", name := "known", desc := "(I)I" } : Jvm.MethodName)) ∈ lw_all := lw_g (lw_at lw_m7 44 rfl) rfl
theorem q1549 : (Jvm.Cond.code ({ cls := "TraceWardenModel", name := "known", desc := "(I)I" } : Jvm.MethodName) prog_12_method_35_code (6 : Nat) (Option.some Jvm.ClassFile.FieldType.int)) ∈ lw_all := lw_g (lw_at lw_m7 45 rfl) rfl
theorem q1550 : (Jvm.Cond.methodLink "TraceWardenModel" (288 : Nat) ({ cls := "TraceWardenModel", name := "fail", desc := "()V" } : Jvm.MethodName)) ∈ lw_all := lw_g (lw_at lw_m7 46 rfl) rfl
theorem q1551 : (Jvm.Cond.privateMethod ({ cls := "TraceWardenModel", name := "fail", desc := "()V" } : Jvm.MethodName)) ∈ lw_tbl := lw_at lw_m7 47 rfl
theorem q1552 : (Jvm.Cond.instanceMethod ({ cls := "TraceWardenModel", name := "fail", desc := "()V" } : Jvm.MethodName)) ∈ lw_all := lw_g (lw_at lw_m7 48 rfl) rfl
theorem q1553 : (Jvm.Cond.code ({ cls := "TraceWardenModel", name := "fail", desc := "()V" } : Jvm.MethodName) prog_12_method_37_code (6 : Nat) (Option.none : Option Jvm.ClassFile.FieldType)) ∈ lw_all := lw_g (lw_at lw_m7 49 rfl) rfl
theorem q1554 : (Jvm.Cond.methodLink "TraceWardenModel" (291 : Nat) ({ cls := "TraceWardenModel", name := "split", desc := "()V" } : Jvm.MethodName)) ∈ lw_all := lw_g (lw_at lw_m7 50 rfl) rfl
theorem q1555 : (Jvm.Cond.privateMethod ({ cls := "TraceWardenModel", name := "split", desc := "()V" } : Jvm.MethodName)) ∈ lw_tbl := lw_at lw_m7 51 rfl
theorem q1556 : (Jvm.Cond.instanceMethod ({ cls := "TraceWardenModel", name := "split", desc := "()V" } : Jvm.MethodName)) ∈ lw_all := lw_g (lw_at lw_m7 52 rfl) rfl
theorem q1557 : (Jvm.Cond.code ({ cls := "TraceWardenModel", name := "split", desc := "()V" } : Jvm.MethodName) prog_12_method_39_code (8 : Nat) (Option.none : Option Jvm.ClassFile.FieldType)) ∈ lw_all := lw_g (lw_at lw_m7 53 rfl) rfl
theorem q1558 : (Jvm.Cond.methodLink "TraceWardenModel" (256 : Nat) ({ cls := "TraceWardenModel", name := "sortAt", desc := "(II)I" } : Jvm.MethodName)) ∈ lw_all := lw_g (lw_at lw_m7 54 rfl) rfl
theorem q1559 : (Jvm.Cond.privateMethod ({ cls := "TraceWardenModel", name := "sortAt", desc := "(II)I" } : Jvm.MethodName)) ∈ lw_tbl := lw_at lw_m7 55 rfl
theorem q1560 : (Jvm.Cond.instanceMethod ({ cls := "TraceWardenModel", name := "sortAt", desc := "(II)I" } : Jvm.MethodName)) ∈ lw_all := lw_g (lw_at lw_m7 56 rfl) rfl
theorem q1561 : (Jvm.Cond.code ({ cls := "TraceWardenModel", name := "sortAt", desc := "(II)I" } : Jvm.MethodName) prog_12_method_38_code (4 : Nat) (Option.some Jvm.ClassFile.FieldType.int)) ∈ lw_all := lw_g (lw_at lw_m7 57 rfl) rfl
theorem q1562 : (Jvm.Cond.methodLink "TraceWardenModel" (294 : Nat) ({ cls := "TraceWardenModel", name := "number", desc := "()V" } : Jvm.MethodName)) ∈ lw_all := lw_g (lw_at lw_m7 58 rfl) rfl
theorem q1563 : (Jvm.Cond.privateMethod ({ cls := "TraceWardenModel", name := "number", desc := "()V" } : Jvm.MethodName)) ∈ lw_tbl := lw_at lw_m7 59 rfl
theorem q1564 : (Jvm.Cond.instanceMethod ({ cls := "TraceWardenModel", name := "number", desc := "()V" } : Jvm.MethodName)) ∈ lw_all := lw_g (lw_at lw_m7 60 rfl) rfl
theorem q1565 : (Jvm.Cond.code ({ cls := "TraceWardenModel", name := "number", desc := "()V" } : Jvm.MethodName) prog_12_method_40_code (5 : Nat) (Option.none : Option Jvm.ClassFile.FieldType)) ∈ lw_all := lw_g (lw_at lw_m7 61 rfl) rfl
theorem q1566 : (Jvm.Cond.methodLink "TraceWardenModel" (297 : Nat) ({ cls := "TraceWardenModel", name := "count", desc := "()V" } : Jvm.MethodName)) ∈ lw_all := lw_g (lw_at lw_m7 62 rfl) rfl
theorem q1567 : (Jvm.Cond.privateMethod ({ cls := "TraceWardenModel", name := "count", desc := "()V" } : Jvm.MethodName)) ∈ lw_tbl := lw_at lw_m7 63 rfl
theorem q1568 : (Jvm.Cond.instanceMethod ({ cls := "TraceWardenModel", name := "count", desc := "()V" } : Jvm.MethodName)) ∈ lw_all := lw_g (lw_at lw_m7 64 rfl) rfl
theorem q1569 : (Jvm.Cond.code ({ cls := "TraceWardenModel", name := "count", desc := "()V" } : Jvm.MethodName) prog_12_method_43_code (6 : Nat) (Option.none : Option Jvm.ClassFile.FieldType)) ∈ lw_all := lw_g (lw_at lw_m7 65 rfl) rfl
theorem q1570 : (Jvm.Cond.methodLink "TraceWardenModel" (265 : Nat) ({ cls := "TraceWardenModel", name := "wayOf", desc := "(II)I" } : Jvm.MethodName)) ∈ lw_all := lw_g (lw_at lw_m7 66 rfl) rfl
theorem q1571 : (Jvm.Cond.privateMethod ({ cls := "TraceWardenModel", name := "wayOf", desc := "(II)I" } : Jvm.MethodName)) ∈ lw_tbl := lw_at lw_m7 67 rfl
theorem q1572 : (Jvm.Cond.instanceMethod ({ cls := "TraceWardenModel", name := "wayOf", desc := "(II)I" } : Jvm.MethodName)) ∈ lw_all := lw_g (lw_at lw_m7 68 rfl) rfl
theorem q1573 : (Jvm.Cond.code ({ cls := "TraceWardenModel", name := "wayOf", desc := "(II)I" } : Jvm.MethodName) prog_12_method_42_code (6 : Nat) (Option.some Jvm.ClassFile.FieldType.int)) ∈ lw_all := lw_g (lw_at lw_m7 69 rfl) rfl
theorem q1574 : (Jvm.Cond.methodLink "TraceWardenModel" (262 : Nat) ({ cls := "TraceWardenModel", name := "codeAfter", desc := "(II)I" } : Jvm.MethodName)) ∈ lw_all := lw_g (lw_at lw_m7 70 rfl) rfl
theorem q1575 : (Jvm.Cond.privateMethod ({ cls := "TraceWardenModel", name := "codeAfter", desc := "(II)I" } : Jvm.MethodName)) ∈ lw_tbl := lw_at lw_m7 71 rfl
theorem q1576 : (Jvm.Cond.instanceMethod ({ cls := "TraceWardenModel", name := "codeAfter", desc := "(II)I" } : Jvm.MethodName)) ∈ lw_all := lw_g (lw_at lw_m7 72 rfl) rfl
theorem q1577 : (Jvm.Cond.code ({ cls := "TraceWardenModel", name := "codeAfter", desc := "(II)I" } : Jvm.MethodName) prog_12_method_41_code (4 : Nat) (Option.some Jvm.ClassFile.FieldType.int)) ∈ lw_all := lw_g (lw_at lw_m7 73 rfl) rfl
theorem q1578 : (Jvm.Cond.methodLink "TraceWardenModel" (271 : Nat) ({ cls := "TraceWardenModel", name := "pair", desc := "(III)I" } : Jvm.MethodName)) ∈ lw_all := lw_g (lw_at lw_m7 74 rfl) rfl
theorem q1579 : (Jvm.Cond.privateMethod ({ cls := "TraceWardenModel", name := "pair", desc := "(III)I" } : Jvm.MethodName)) ∈ lw_tbl := lw_at lw_m7 75 rfl
theorem q1580 : (Jvm.Cond.instanceMethod ({ cls := "TraceWardenModel", name := "pair", desc := "(III)I" } : Jvm.MethodName)) ∈ lw_all := lw_g (lw_at lw_m7 76 rfl) rfl
theorem q1581 : (Jvm.Cond.code ({ cls := "TraceWardenModel", name := "pair", desc := "(III)I" } : Jvm.MethodName) prog_12_method_44_code (5 : Nat) (Option.some Jvm.ClassFile.FieldType.int)) ∈ lw_all := lw_g (lw_at lw_m7 77 rfl) rfl
theorem q1583 : (Jvm.Cond.instanceMethod ({ cls := "TraceWardenModel", name := "size", desc := "(I)I" } : Jvm.MethodName)) ∈ lw_all := lw_g (lw_at lw_m7 79 rfl) rfl
theorem q1584 : (Jvm.Cond.selects "TraceWardenModel" ({ cls := "TraceWardenModel", name := "size", desc := "(I)I" } : Jvm.MethodName) ({ cls := "TraceWardenModel", name := "size", desc := "(I)I" } : Jvm.MethodName)) ∈ lw_all := lw_g (lw_at lw_m7 80 rfl) rfl
theorem q1585 : (Jvm.Cond.code ({ cls := "TraceWardenModel", name := "size", desc := "(I)I" } : Jvm.MethodName) prog_12_method_46_code (2 : Nat) (Option.some Jvm.ClassFile.FieldType.int)) ∈ lw_all := lw_g (lw_at lw_m7 81 rfl) rfl
theorem q1587 : (Jvm.Cond.instanceMethod ({ cls := "TraceWardenModel", name := "next", desc := "(II)I" } : Jvm.MethodName)) ∈ lw_all := lw_g (lw_at lw_m7 83 rfl) rfl
theorem q1588 : (Jvm.Cond.selects "TraceWardenModel" ({ cls := "TraceWardenModel", name := "next", desc := "(II)I" } : Jvm.MethodName) ({ cls := "TraceWardenModel", name := "next", desc := "(II)I" } : Jvm.MethodName)) ∈ lw_all := lw_g (lw_at lw_m7 84 rfl) rfl
theorem q1589 : (Jvm.Cond.code ({ cls := "TraceWardenModel", name := "next", desc := "(II)I" } : Jvm.MethodName) prog_12_method_47_code (3 : Nat) (Option.some Jvm.ClassFile.FieldType.int)) ∈ lw_all := lw_g (lw_at lw_m7 85 rfl) rfl
theorem q1591 : (Jvm.Cond.instanceMethod ({ cls := "TraceWardenModel", name := "output", desc := "(III)Z" } : Jvm.MethodName)) ∈ lw_all := lw_g (lw_at lw_m7 87 rfl) rfl
theorem q1592 : (Jvm.Cond.selects "TraceWardenModel" ({ cls := "TraceWardenModel", name := "output", desc := "(III)Z" } : Jvm.MethodName) ({ cls := "TraceWardenModel", name := "output", desc := "(III)Z" } : Jvm.MethodName)) ∈ lw_all := lw_g (lw_at lw_m7 88 rfl) rfl
theorem q1593 : (Jvm.Cond.code ({ cls := "TraceWardenModel", name := "output", desc := "(III)Z" } : Jvm.MethodName) prog_12_method_48_code (5 : Nat) (Option.some Jvm.ClassFile.FieldType.boolean)) ∈ lw_all := lw_g (lw_at lw_m7 89 rfl) rfl
theorem q1595 : (Jvm.Cond.instanceMethod ({ cls := "TraceWardenModel", name := "begin", desc := "()Z" } : Jvm.MethodName)) ∈ lw_all := lw_g (lw_at lw_m7 91 rfl) rfl
theorem q1596 : (Jvm.Cond.selects "TraceWardenModel" ({ cls := "TraceWardenModel", name := "begin", desc := "()Z" } : Jvm.MethodName) ({ cls := "TraceWardenModel", name := "begin", desc := "()Z" } : Jvm.MethodName)) ∈ lw_all := lw_g (lw_at lw_m7 92 rfl) rfl
theorem q1597 : (Jvm.Cond.code ({ cls := "TraceWardenModel", name := "begin", desc := "()Z" } : Jvm.MethodName) prog_12_method_49_code (1 : Nat) (Option.some Jvm.ClassFile.FieldType.boolean)) ∈ lw_all := lw_g (lw_at lw_m7 93 rfl) rfl
theorem q1599 : (Jvm.Cond.instanceMethod ({ cls := "TraceWardenModel", name := "step", desc := "(I)I" } : Jvm.MethodName)) ∈ lw_all := lw_g (lw_at lw_m7 95 rfl) rfl
theorem q1600 : (Jvm.Cond.selects "TraceWardenModel" ({ cls := "TraceWardenModel", name := "step", desc := "(I)I" } : Jvm.MethodName) ({ cls := "TraceWardenModel", name := "step", desc := "(I)I" } : Jvm.MethodName)) ∈ lw_all := lw_g (lw_at lw_m7 96 rfl) rfl
theorem q1601 : (Jvm.Cond.code ({ cls := "TraceWardenModel", name := "step", desc := "(I)I" } : Jvm.MethodName) prog_12_method_50_code (2 : Nat) (Option.some Jvm.ClassFile.FieldType.int)) ∈ lw_all := lw_g (lw_at lw_m7 97 rfl) rfl
theorem q1603 : (Jvm.Cond.instanceMethod ({ cls := "TraceWardenModel", name := "time", desc := "()I" } : Jvm.MethodName)) ∈ lw_all := lw_g (lw_at lw_m7 99 rfl) rfl
theorem q1604 : (Jvm.Cond.selects "TraceWardenModel" ({ cls := "TraceWardenModel", name := "time", desc := "()I" } : Jvm.MethodName) ({ cls := "TraceWardenModel", name := "time", desc := "()I" } : Jvm.MethodName)) ∈ lw_all := lw_g (lw_at lw_m7 100 rfl) rfl
theorem q1605 : (Jvm.Cond.code ({ cls := "TraceWardenModel", name := "time", desc := "()I" } : Jvm.MethodName) prog_12_method_51_code (1 : Nat) (Option.some Jvm.ClassFile.FieldType.int)) ∈ lw_all := lw_g (lw_at lw_m7 101 rfl) rfl
theorem q1607 : (Jvm.Cond.instanceMethod ({ cls := "TraceWardenModel", name := "window", desc := "()I" } : Jvm.MethodName)) ∈ lw_all := lw_g (lw_at lw_m7 103 rfl) rfl
theorem q1608 : (Jvm.Cond.selects "TraceWardenModel" ({ cls := "TraceWardenModel", name := "window", desc := "()I" } : Jvm.MethodName) ({ cls := "TraceWardenModel", name := "window", desc := "()I" } : Jvm.MethodName)) ∈ lw_all := lw_g (lw_at lw_m7 104 rfl) rfl
theorem q1609 : (Jvm.Cond.code ({ cls := "TraceWardenModel", name := "window", desc := "()I" } : Jvm.MethodName) prog_12_method_54_code (1 : Nat) (Option.some Jvm.ClassFile.FieldType.int)) ∈ lw_all := lw_g (lw_at lw_m7 105 rfl) rfl
theorem q1610 : (Jvm.Cond.methodLink "TraceWardenModel" (312 : Nat) ({ cls := "TraceWardenModel", name := "shortest", desc := "()I" } : Jvm.MethodName)) ∈ lw_all := lw_g (lw_at lw_m7 106 rfl) rfl
theorem q1611 : (Jvm.Cond.privateMethod ({ cls := "TraceWardenModel", name := "shortest", desc := "()I" } : Jvm.MethodName)) ∈ lw_tbl := lw_at lw_m7 107 rfl
theorem q1612 : (Jvm.Cond.instanceMethod ({ cls := "TraceWardenModel", name := "shortest", desc := "()I" } : Jvm.MethodName)) ∈ lw_all := lw_g (lw_at lw_m7 108 rfl) rfl
theorem q1613 : (Jvm.Cond.code ({ cls := "TraceWardenModel", name := "shortest", desc := "()I" } : Jvm.MethodName) prog_12_method_53_code (2 : Nat) (Option.some Jvm.ClassFile.FieldType.int)) ∈ lw_all := lw_g (lw_at lw_m7 109 rfl) rfl
theorem q1614 : (Jvm.Cond.methodLink "TraceWardenModel" (309 : Nat) ({ cls := "TraceWardenModel", name := "fails", desc := "(I)Z" } : Jvm.MethodName)) ∈ lw_all := lw_g (lw_at lw_m7 110 rfl) rfl
theorem q1615 : (Jvm.Cond.privateMethod ({ cls := "TraceWardenModel", name := "fails", desc := "(I)Z" } : Jvm.MethodName)) ∈ lw_tbl := lw_at lw_m7 111 rfl
theorem q1616 : (Jvm.Cond.instanceMethod ({ cls := "TraceWardenModel", name := "fails", desc := "(I)Z" } : Jvm.MethodName)) ∈ lw_all := lw_g (lw_at lw_m7 112 rfl) rfl
theorem q1617 : (Jvm.Cond.code ({ cls := "TraceWardenModel", name := "fails", desc := "(I)Z" } : Jvm.MethodName) prog_12_method_52_code (4 : Nat) (Option.some Jvm.ClassFile.FieldType.boolean)) ∈ lw_all := lw_g (lw_at lw_m7 113 rfl) rfl
theorem q1619 : (Jvm.Cond.instanceMethod ({ cls := "TraceWardenModel", name := "loop", desc := "(I)Z" } : Jvm.MethodName)) ∈ lw_all := lw_g (lw_at lw_m7 115 rfl) rfl
theorem q1620 : (Jvm.Cond.selects "TraceWardenModel" ({ cls := "TraceWardenModel", name := "loop", desc := "(I)Z" } : Jvm.MethodName) ({ cls := "TraceWardenModel", name := "loop", desc := "(I)Z" } : Jvm.MethodName)) ∈ lw_all := lw_g (lw_at lw_m7 116 rfl) rfl
theorem q1621 : (Jvm.Cond.code ({ cls := "TraceWardenModel", name := "loop", desc := "(I)Z" } : Jvm.MethodName) prog_12_method_55_code (5 : Nat) (Option.some Jvm.ClassFile.FieldType.boolean)) ∈ lw_all := lw_g (lw_at lw_m7 117 rfl) rfl
theorem q1623 : (Jvm.Cond.instanceMethod ({ cls := "TraceWardenModel", name := "report", desc := "()I" } : Jvm.MethodName)) ∈ lw_all := lw_g (lw_at lw_m7 119 rfl) rfl
theorem q1624 : (Jvm.Cond.selects "TraceWardenModel" ({ cls := "TraceWardenModel", name := "report", desc := "()I" } : Jvm.MethodName) ({ cls := "TraceWardenModel", name := "report", desc := "()I" } : Jvm.MethodName)) ∈ lw_all := lw_g (lw_at lw_m7 120 rfl) rfl
theorem q1625 : (Jvm.Cond.code ({ cls := "TraceWardenModel", name := "report", desc := "()I" } : Jvm.MethodName) prog_12_method_59_code (1 : Nat) (Option.some Jvm.ClassFile.FieldType.int)) ∈ lw_all := lw_g (lw_at lw_m7 121 rfl) rfl
theorem q1626 : (Jvm.Cond.methodLink "TraceWardenModel" (335 : Nat) ({ cls := "TraceWardenModel", name := "tellWord", desc := "(I)V" } : Jvm.MethodName)) ∈ lw_all := lw_g (lw_at lw_m7 122 rfl) rfl
theorem q1627 : (Jvm.Cond.privateMethod ({ cls := "TraceWardenModel", name := "tellWord", desc := "(I)V" } : Jvm.MethodName)) ∈ lw_tbl := lw_at lw_m7 123 rfl
theorem q1628 : (Jvm.Cond.instanceMethod ({ cls := "TraceWardenModel", name := "tellWord", desc := "(I)V" } : Jvm.MethodName)) ∈ lw_all := lw_g (lw_at lw_m7 124 rfl) rfl
theorem q1629 : (Jvm.Cond.code ({ cls := "TraceWardenModel", name := "tellWord", desc := "(I)V" } : Jvm.MethodName) prog_12_method_58_code (4 : Nat) (Option.none : Option Jvm.ClassFile.FieldType)) ∈ lw_all := lw_g (lw_at lw_m7 125 rfl) rfl
theorem q1630 : (Jvm.Cond.constantLong "TraceWardenModel" (323 : Nat) (1701736302 : Int64)) ∈ lw_all := lw_g (lw_at lw_m7 126 rfl) rfl
theorem q1631 : (Jvm.Cond.constantLong "TraceWardenModel" (325 : Nat) (35705747236210 : Int64)) ∈ lw_all := lw_g (lw_at lw_m7 127 rfl) rfl
theorem q1632 : (Jvm.Cond.constantLong "TraceWardenModel" (327 : Nat) (544109938 : Int64)) ∈ lw_all := lw_g (lw_at lw_m7 128 rfl) rfl
theorem q1633 : (Jvm.Cond.constantLong "TraceWardenModel" (329 : Nat) (9117586028061030 : Int64)) ∈ lw_all := lw_g (lw_at lw_m7 129 rfl) rfl
theorem q1634 : (Jvm.Cond.constantLong "TraceWardenModel" (331 : Nat) (544106784 : Int64)) ∈ lw_all := lw_g (lw_at lw_m7 130 rfl) rfl
theorem q1635 : (Jvm.Cond.constantLong "TraceWardenModel" (333 : Nat) (544825888 : Int64)) ∈ lw_all := lw_g (lw_at lw_m7 131 rfl) rfl
theorem q1636 : (Jvm.Cond.methodLink "TraceWardenModel" (319 : Nat) ({ cls := "TraceWardenModel", name := "tell", desc := "(C)V" } : Jvm.MethodName)) ∈ lw_all := lw_g (lw_at lw_m7 132 rfl) rfl
theorem q1637 : (Jvm.Cond.privateMethod ({ cls := "TraceWardenModel", name := "tell", desc := "(C)V" } : Jvm.MethodName)) ∈ lw_tbl := lw_at lw_m7 133 rfl
theorem q1638 : (Jvm.Cond.instanceMethod ({ cls := "TraceWardenModel", name := "tell", desc := "(C)V" } : Jvm.MethodName)) ∈ lw_all := lw_g (lw_at lw_m7 134 rfl) rfl
theorem q1639 : (Jvm.Cond.code ({ cls := "TraceWardenModel", name := "tell", desc := "(C)V" } : Jvm.MethodName) prog_12_method_56_code (2 : Nat) (Option.none : Option Jvm.ClassFile.FieldType)) ∈ lw_all := lw_g (lw_at lw_m7 135 rfl) rfl
theorem q1640 : (Jvm.Cond.methodLink "TraceWardenModel" (338 : Nat) ({ cls := "TraceWardenModel", name := "tellNumber", desc := "(I)V" } : Jvm.MethodName)) ∈ lw_all := lw_g (lw_at lw_m7 136 rfl) rfl
theorem q1641 : (Jvm.Cond.privateMethod ({ cls := "TraceWardenModel", name := "tellNumber", desc := "(I)V" } : Jvm.MethodName)) ∈ lw_tbl := lw_at lw_m7 137 rfl
theorem q1642 : (Jvm.Cond.instanceMethod ({ cls := "TraceWardenModel", name := "tellNumber", desc := "(I)V" } : Jvm.MethodName)) ∈ lw_all := lw_g (lw_at lw_m7 138 rfl) rfl
theorem q1643 : (Jvm.Cond.code ({ cls := "TraceWardenModel", name := "tellNumber", desc := "(I)V" } : Jvm.MethodName) prog_12_method_57_code (2 : Nat) (Option.none : Option Jvm.ClassFile.FieldType)) ∈ lw_all := lw_g (lw_at lw_m7 139 rfl) rfl
theorem q1645 : (Jvm.Cond.instanceMethod ({ cls := "TraceWardenModel", name := "said", desc := "(I)C" } : Jvm.MethodName)) ∈ lw_all := lw_g (lw_at lw_m7 141 rfl) rfl
theorem q1646 : (Jvm.Cond.selects "TraceWardenModel" ({ cls := "TraceWardenModel", name := "said", desc := "(I)C" } : Jvm.MethodName) ({ cls := "TraceWardenModel", name := "said", desc := "(I)C" } : Jvm.MethodName)) ∈ lw_all := lw_g (lw_at lw_m7 142 rfl) rfl
theorem q1647 : (Jvm.Cond.code ({ cls := "TraceWardenModel", name := "said", desc := "(I)C" } : Jvm.MethodName) prog_12_method_60_code (2 : Nat) (Option.some Jvm.ClassFile.FieldType.char)) ∈ lw_all := lw_g (lw_at lw_m7 143 rfl) rfl
theorem q1672 : (Jvm.Cond.castable "TraceWardenModel" "java/lang/Object") ∈ lw_tbl := lw_at lw_m7 168 rfl
theorem in_X9 : ∀ w ∈ wsX90, w ∈ lw_all := lw_in wsX90 [1297, 1299, 1301, 1303, 1305, 1307, 1309, 1311, 1313, 1315, 1317, 1319, 1321, 1323, 1325, 1327, 1329, 1331, 1333, 1335, 1337, 1339, 1341, 1343, 1345, 1347, 1349, 1351, 1353, 1355, 1357, 1359, 1361, 1363, 1365, 1367, 1369, 1371, 1373, 1375, 1377, 1379, 1381, 1383, 1385, 1387, 1389, 1391, 1393, 1395, 1397, 1399, 1401, 1403] (by decide +kernel) (by decide +kernel)

/-! java/lang/Throwable -/
def RJ3 : String := "java/lang/Throwable"
def TJ3 : u_T := fun k => match k with
  | 0 => ("java/lang/Throwable", "cause", "Ljava/lang/Throwable;", false)
  | 1 => ("java/lang/Throwable", "stackTrace", "[Ljava/lang/StackTraceElement;", false)
  | 2 => ("java/lang/Throwable", "suppressedExceptions", "Ljava/util/List;", false)
  | 3 => ("java/lang/Throwable", "detailMessage", "Ljava/lang/String;", false)
  | _ => ("java/lang/Throwable", "backtrace", "Ljava/lang/Object;", false)
def tyJ3 : Nat → FieldType := fun k => match k with
  | 0 => .object "java/lang/Throwable"
  | 1 => .array (.object "java/lang/StackTraceElement")
  | 2 => .object "java/util/List"
  | 3 => .object "java/lang/String"
  | _ => .object "java/lang/Object"
abbrev wsJ30 : List Cond := u_ws RJ3 TJ3 5
theorem nmJ3 : ∀ a, a < 5 → ∀ b, b < 5 → a ≠ b → (TJ3 a).2.1 ≠ (TJ3 b).2.1 := by decide +kernel
theorem tyJ3_ok : ∀ k, k < 5 → parseFieldDescriptor (TJ3 k).2.2.1 = some (tyJ3 k) := by decide +kernel
abbrev cJ3_init : ByteArray := prog_31_method_1_code
def yJ3_init : MethodName := ⟨RJ3, "<init>", "()V"⟩
abbrev cJ3_init_2 : ByteArray := prog_31_method_2_code
def yJ3_init_2 : MethodName := ⟨RJ3, "<init>", "(Ljava/lang/String;)V"⟩
theorem q77 : (Jvm.Cond.initialized "java/lang/Throwable") ∈ lw_all := lw_g (lw_at lw_m1 13 rfl) rfl
theorem q625 : (Jvm.Cond.declares ({ cls := "java/lang/Throwable", name := "<init>", desc := "()V" } : Jvm.MethodName)) ∈ lw_tbl := lw_at lw_m3 81 rfl
theorem q626 : (Jvm.Cond.declares ({ cls := "java/lang/Throwable", name := "<init>", desc := "(Ljava/lang/String;)V" } : Jvm.MethodName)) ∈ lw_tbl := lw_at lw_m3 82 rfl
theorem q630 : (Jvm.Cond.lays "java/lang/Throwable" "java/lang/Throwable" "cause" "Ljava/lang/Throwable;") ∈ lw_all := lw_g (lw_at lw_m3 86 rfl) rfl
theorem q632 : (Jvm.Cond.lays "java/lang/Throwable" "java/lang/Throwable" "stackTrace" "[Ljava/lang/StackTraceElement;") ∈ lw_all := lw_g (lw_at lw_m3 88 rfl) rfl
theorem q634 : (Jvm.Cond.lays "java/lang/Throwable" "java/lang/Throwable" "suppressedExceptions" "Ljava/util/List;") ∈ lw_all := lw_g (lw_at lw_m3 90 rfl) rfl
theorem q636 : (Jvm.Cond.lays "java/lang/Throwable" "java/lang/Throwable" "detailMessage" "Ljava/lang/String;") ∈ lw_all := lw_g (lw_at lw_m3 92 rfl) rfl
theorem q638 : (Jvm.Cond.lays "java/lang/Throwable" "java/lang/Throwable" "backtrace" "Ljava/lang/Object;") ∈ lw_all := lw_g (lw_at lw_m3 94 rfl) rfl
theorem q639 : (Jvm.Cond.fieldLink "java/lang/Throwable" (198 : Nat) "java/lang/Throwable" "backtrace" "Ljava/lang/Object;") ∈ lw_all := lw_g (lw_at lw_m3 95 rfl) rfl
theorem q640 : (Jvm.Cond.superclass "java/lang/Throwable" "java/lang/Object") ∈ lw_all := lw_g (lw_at lw_m3 96 rfl) rfl
theorem q641 : (Jvm.Cond.instanceMethod ({ cls := "java/lang/Throwable", name := "<init>", desc := "()V" } : Jvm.MethodName)) ∈ lw_all := lw_g (lw_at lw_m3 97 rfl) rfl
theorem q642 : (Jvm.Cond.code ({ cls := "java/lang/Throwable", name := "<init>", desc := "()V" } : Jvm.MethodName) prog_31_method_1_code (1 : Nat) (Option.none : Option Jvm.ClassFile.FieldType)) ∈ lw_all := lw_g (lw_at lw_m3 98 rfl) rfl
theorem q643 : (Jvm.Cond.methodLink "java/lang/Throwable" (1 : Nat) ({ cls := "java/lang/Object", name := "<init>", desc := "()V" } : Jvm.MethodName)) ∈ lw_all := lw_g (lw_at lw_m3 99 rfl) rfl
theorem q644 : (Jvm.Cond.fieldLink "java/lang/Throwable" (13 : Nat) "java/lang/Throwable" "UNASSIGNED_STACK" "[Ljava/lang/StackTraceElement;") ∈ lw_all := lw_g (lw_at lw_m3 100 rfl) rfl
theorem q645 : (Jvm.Cond.laysStatic "java/lang/Throwable" "UNASSIGNED_STACK" "[Ljava/lang/StackTraceElement;") ∈ lw_tbl := lw_at lw_m3 101 rfl
theorem q646 : (Jvm.Cond.fieldLink "java/lang/Throwable" (20 : Nat) "java/lang/Throwable" "SUPPRESSED_SENTINEL" "Ljava/util/List;") ∈ lw_all := lw_g (lw_at lw_m3 102 rfl) rfl
theorem q647 : (Jvm.Cond.laysStatic "java/lang/Throwable" "SUPPRESSED_SENTINEL" "Ljava/util/List;") ∈ lw_tbl := lw_at lw_m3 103 rfl
theorem q648 : (Jvm.Cond.methodLink "java/lang/Throwable" (27 : Nat) ({ cls := "java/lang/Throwable", name := "fillInStackTrace", desc := "()Ljava/lang/Throwable;" } : Jvm.MethodName)) ∈ lw_all := lw_g (lw_at lw_m3 104 rfl) rfl
theorem q649 : (Jvm.Cond.instanceMethod ({ cls := "java/lang/Throwable", name := "fillInStackTrace", desc := "()Ljava/lang/Throwable;" } : Jvm.MethodName)) ∈ lw_all := lw_g (lw_at lw_m3 105 rfl) rfl
theorem q650 : (Jvm.Cond.sameMethod "java/lang/Throwable" "java/lang/Throwable" "fillInStackTrace" "()Ljava/lang/Throwable;") ∈ lw_all := lw_g (lw_at lw_m3 106 rfl) rfl
theorem q656 : (Jvm.Cond.codeSync ({ cls := "java/lang/Throwable", name := "fillInStackTrace", desc := "()Ljava/lang/Throwable;" } : Jvm.MethodName) prog_31_method_18_code (1 : Nat) (Option.some (Jvm.ClassFile.FieldType.object "java/lang/Throwable"))) ∈ lw_all := lw_g (lw_at lw_m3 112 rfl) rfl
theorem q657 : (Jvm.Cond.methodLink "java/lang/Throwable" (202 : Nat) ({ cls := "java/lang/Throwable", name := "fillInStackTrace", desc := "(I)Ljava/lang/Throwable;" } : Jvm.MethodName)) ∈ lw_all := lw_g (lw_at lw_m3 113 rfl) rfl
theorem q658 : (Jvm.Cond.privateMethod ({ cls := "java/lang/Throwable", name := "fillInStackTrace", desc := "(I)Ljava/lang/Throwable;" } : Jvm.MethodName)) ∈ lw_tbl := lw_at lw_m3 114 rfl
theorem q659 : (Jvm.Cond.instanceMethod ({ cls := "java/lang/Throwable", name := "fillInStackTrace", desc := "(I)Ljava/lang/Throwable;" } : Jvm.MethodName)) ∈ lw_all := lw_g (lw_at lw_m3 115 rfl) rfl
theorem q660 : (Jvm.Cond.instantiable "java/lang/Throwable" (6 : Nat)) ∈ lw_all := lw_g (lw_at lw_m3 116 rfl) rfl
theorem q661 : (Jvm.Cond.native ({ cls := "java/lang/Throwable", name := "fillInStackTrace", desc := "(I)Ljava/lang/Throwable;" } : Jvm.MethodName)) ∈ lw_all := lw_g (lw_at lw_m3 117 rfl) rfl
theorem q678 : (Jvm.Cond.instanceMethod ({ cls := "java/lang/Throwable", name := "<init>", desc := "(Ljava/lang/String;)V" } : Jvm.MethodName)) ∈ lw_all := lw_g (lw_at lw_m3 134 rfl) rfl
theorem q679 : (Jvm.Cond.code ({ cls := "java/lang/Throwable", name := "<init>", desc := "(Ljava/lang/String;)V" } : Jvm.MethodName) prog_31_method_2_code (2 : Nat) (Option.none : Option Jvm.ClassFile.FieldType)) ∈ lw_all := lw_g (lw_at lw_m3 135 rfl) rfl
theorem q680 : (Jvm.Cond.fieldLink "java/lang/Throwable" (198 : Nat) "java/lang/Throwable" "backtrace" "Ljava/lang/Object;") ∈ lw_all := lw_g (lw_at lw_m3 136 rfl) rfl
theorem q681 : (Jvm.Cond.fieldLink "java/lang/Throwable" (31 : Nat) "java/lang/Throwable" "detailMessage" "Ljava/lang/String;") ∈ lw_all := lw_g (lw_at lw_m3 137 rfl) rfl
theorem q682 : (Jvm.Cond.fieldLink "java/lang/Throwable" (7 : Nat) "java/lang/Throwable" "cause" "Ljava/lang/Throwable;") ∈ lw_all := lw_g (lw_at lw_m3 138 rfl) rfl
theorem q683 : (Jvm.Cond.fieldLink "java/lang/Throwable" (17 : Nat) "java/lang/Throwable" "stackTrace" "[Ljava/lang/StackTraceElement;") ∈ lw_all := lw_g (lw_at lw_m3 139 rfl) rfl
theorem q684 : (Jvm.Cond.fieldLink "java/lang/Throwable" (24 : Nat) "java/lang/Throwable" "suppressedExceptions" "Ljava/util/List;") ∈ lw_all := lw_g (lw_at lw_m3 140 rfl) rfl
theorem q685 : (Jvm.Cond.soleField "java/lang/Throwable" "backtrace") ∈ lw_all := lw_g (lw_at lw_m3 141 rfl) rfl
theorem q686 : (Jvm.Cond.soleField "java/lang/Throwable" "detailMessage") ∈ lw_all := lw_g (lw_at lw_m3 142 rfl) rfl
theorem q687 : (Jvm.Cond.soleField "java/lang/Throwable" "cause") ∈ lw_all := lw_g (lw_at lw_m3 143 rfl) rfl
theorem q688 : (Jvm.Cond.soleField "java/lang/Throwable" "stackTrace") ∈ lw_all := lw_g (lw_at lw_m3 144 rfl) rfl
theorem q690 : (Jvm.Cond.soleField "java/lang/Throwable" "depth") ∈ lw_all := lw_g (lw_at lw_m3 146 rfl) rfl
theorem q691 : (Jvm.Cond.soleField "java/lang/Throwable" "suppressedExceptions") ∈ lw_all := lw_g (lw_at lw_m3 147 rfl) rfl
theorem q1657 : (Jvm.Cond.sameMethod "java/lang/Throwable" "java/lang/Throwable" "fillInStackTrace" "(I)Ljava/lang/Throwable;") ∈ lw_all := lw_g (lw_at lw_m7 153 rfl) rfl
theorem q1681 : (Jvm.Cond.castable "java/lang/Throwable" "java/lang/Object") ∈ lw_tbl := lw_at lw_m7 177 rfl
theorem in_J3 : ∀ w ∈ wsJ30, w ∈ lw_all := lw_in wsJ30 [630, 632, 634, 636, 638] (by decide +kernel) (by decide +kernel)

/-! java/lang/Exception -/
def RJ4 : String := "java/lang/Exception"
abbrev cJ4_init : ByteArray := prog_18_method_2_code
def yJ4_init : MethodName := ⟨RJ4, "<init>", "(Ljava/lang/String;)V"⟩
abbrev cJ4_init_2 : ByteArray := prog_18_method_1_code
def yJ4_init_2 : MethodName := ⟨RJ4, "<init>", "()V"⟩
theorem q78 : (Jvm.Cond.initialized "java/lang/Exception") ∈ lw_all := lw_g (lw_at lw_m1 14 rfl) rfl
theorem q623 : (Jvm.Cond.declares ({ cls := "java/lang/Exception", name := "<init>", desc := "()V" } : Jvm.MethodName)) ∈ lw_tbl := lw_at lw_m3 79 rfl
theorem q624 : (Jvm.Cond.declares ({ cls := "java/lang/Exception", name := "<init>", desc := "(Ljava/lang/String;)V" } : Jvm.MethodName)) ∈ lw_tbl := lw_at lw_m3 80 rfl
theorem q675 : (Jvm.Cond.instanceMethod ({ cls := "java/lang/Exception", name := "<init>", desc := "(Ljava/lang/String;)V" } : Jvm.MethodName)) ∈ lw_all := lw_g (lw_at lw_m3 131 rfl) rfl
theorem q676 : (Jvm.Cond.code ({ cls := "java/lang/Exception", name := "<init>", desc := "(Ljava/lang/String;)V" } : Jvm.MethodName) prog_18_method_2_code (2 : Nat) (Option.none : Option Jvm.ClassFile.FieldType)) ∈ lw_all := lw_g (lw_at lw_m3 132 rfl) rfl
theorem q677 : (Jvm.Cond.methodLink "java/lang/Exception" (7 : Nat) ({ cls := "java/lang/Throwable", name := "<init>", desc := "(Ljava/lang/String;)V" } : Jvm.MethodName)) ∈ lw_all := lw_g (lw_at lw_m3 133 rfl) rfl
theorem q781 : (Jvm.Cond.instanceMethod ({ cls := "java/lang/Exception", name := "<init>", desc := "()V" } : Jvm.MethodName)) ∈ lw_all := lw_g (lw_at lw_m3 237 rfl) rfl
theorem q782 : (Jvm.Cond.code ({ cls := "java/lang/Exception", name := "<init>", desc := "()V" } : Jvm.MethodName) prog_18_method_1_code (1 : Nat) (Option.none : Option Jvm.ClassFile.FieldType)) ∈ lw_all := lw_g (lw_at lw_m3 238 rfl) rfl
theorem q783 : (Jvm.Cond.methodLink "java/lang/Exception" (1 : Nat) ({ cls := "java/lang/Throwable", name := "<init>", desc := "()V" } : Jvm.MethodName)) ∈ lw_all := lw_g (lw_at lw_m3 239 rfl) rfl

/-! java/lang/RuntimeException -/
def RJ5 : String := "java/lang/RuntimeException"
abbrev cJ5_init : ByteArray := prog_25_method_2_code
def yJ5_init : MethodName := ⟨RJ5, "<init>", "(Ljava/lang/String;)V"⟩
abbrev cJ5_init_2 : ByteArray := prog_25_method_1_code
def yJ5_init_2 : MethodName := ⟨RJ5, "<init>", "()V"⟩
theorem q79 : (Jvm.Cond.initialized "java/lang/RuntimeException") ∈ lw_all := lw_g (lw_at lw_m1 15 rfl) rfl
theorem q621 : (Jvm.Cond.declares ({ cls := "java/lang/RuntimeException", name := "<init>", desc := "()V" } : Jvm.MethodName)) ∈ lw_tbl := lw_at lw_m3 77 rfl
theorem q622 : (Jvm.Cond.declares ({ cls := "java/lang/RuntimeException", name := "<init>", desc := "(Ljava/lang/String;)V" } : Jvm.MethodName)) ∈ lw_tbl := lw_at lw_m3 78 rfl
theorem q672 : (Jvm.Cond.instanceMethod ({ cls := "java/lang/RuntimeException", name := "<init>", desc := "(Ljava/lang/String;)V" } : Jvm.MethodName)) ∈ lw_all := lw_g (lw_at lw_m3 128 rfl) rfl
theorem q673 : (Jvm.Cond.code ({ cls := "java/lang/RuntimeException", name := "<init>", desc := "(Ljava/lang/String;)V" } : Jvm.MethodName) prog_25_method_2_code (2 : Nat) (Option.none : Option Jvm.ClassFile.FieldType)) ∈ lw_all := lw_g (lw_at lw_m3 129 rfl) rfl
theorem q674 : (Jvm.Cond.methodLink "java/lang/RuntimeException" (7 : Nat) ({ cls := "java/lang/Exception", name := "<init>", desc := "(Ljava/lang/String;)V" } : Jvm.MethodName)) ∈ lw_all := lw_g (lw_at lw_m3 130 rfl) rfl
theorem q778 : (Jvm.Cond.instanceMethod ({ cls := "java/lang/RuntimeException", name := "<init>", desc := "()V" } : Jvm.MethodName)) ∈ lw_all := lw_g (lw_at lw_m3 234 rfl) rfl
theorem q779 : (Jvm.Cond.code ({ cls := "java/lang/RuntimeException", name := "<init>", desc := "()V" } : Jvm.MethodName) prog_25_method_1_code (1 : Nat) (Option.none : Option Jvm.ClassFile.FieldType)) ∈ lw_all := lw_g (lw_at lw_m3 235 rfl) rfl
theorem q780 : (Jvm.Cond.methodLink "java/lang/RuntimeException" (1 : Nat) ({ cls := "java/lang/Exception", name := "<init>", desc := "()V" } : Jvm.MethodName)) ∈ lw_all := lw_g (lw_at lw_m3 236 rfl) rfl

/-! java/lang/IllegalArgumentException -/
def RJ6 : String := "java/lang/IllegalArgumentException"
def TJ6 : u_T := fun k => match k with
  | 0 => ("java/lang/Throwable", "cause", "Ljava/lang/Throwable;", false)
  | 1 => ("java/lang/Throwable", "stackTrace", "[Ljava/lang/StackTraceElement;", false)
  | 2 => ("java/lang/Throwable", "suppressedExceptions", "Ljava/util/List;", false)
  | 3 => ("java/lang/Throwable", "detailMessage", "Ljava/lang/String;", false)
  | 4 => ("java/lang/Throwable", "backtrace", "Ljava/lang/Object;", false)
  | _ => ("java/lang/Throwable", "depth", "I", false)
def tyJ6 : Nat → FieldType := fun k => match k with
  | 0 => .object "java/lang/Throwable"
  | 1 => .array (.object "java/lang/StackTraceElement")
  | 2 => .object "java/util/List"
  | 3 => .object "java/lang/String"
  | 4 => .object "java/lang/Object"
  | _ => .int
abbrev wsJ60 : List Cond := u_ws RJ6 TJ6 6
theorem nmJ6 : ∀ a, a < 6 → ∀ b, b < 6 → a ≠ b → (TJ6 a).2.1 ≠ (TJ6 b).2.1 := by decide +kernel
theorem tyJ6_ok : ∀ k, k < 6 → parseFieldDescriptor (TJ6 k).2.2.1 = some (tyJ6 k) := by decide +kernel
abbrev cJ6_init : ByteArray := prog_19_method_2_code
def yJ6_init : MethodName := ⟨RJ6, "<init>", "(Ljava/lang/String;)V"⟩
abbrev cJ6_init_2 : ByteArray := prog_19_method_1_code
def yJ6_init_2 : MethodName := ⟨RJ6, "<init>", "()V"⟩
theorem q80 : (Jvm.Cond.initialized "java/lang/IllegalArgumentException") ∈ lw_all := lw_g (lw_at lw_m1 16 rfl) rfl
theorem q619 : (Jvm.Cond.instantiable "java/lang/IllegalArgumentException" (6 : Nat)) ∈ lw_all := lw_g (lw_at lw_m3 75 rfl) rfl
theorem q620 : (Jvm.Cond.castable "java/lang/IllegalArgumentException" "java/lang/IllegalArgumentException") ∈ lw_tbl := lw_at lw_m3 76 rfl
theorem q627 : (Jvm.Cond.selects "java/lang/IllegalArgumentException" ({ cls := "java/lang/Throwable", name := "fillInStackTrace", desc := "(I)Ljava/lang/Throwable;" } : Jvm.MethodName) ({ cls := "java/lang/Throwable", name := "fillInStackTrace", desc := "(I)Ljava/lang/Throwable;" } : Jvm.MethodName)) ∈ lw_all := lw_g (lw_at lw_m3 83 rfl) rfl
theorem q628 : (Jvm.Cond.selects "java/lang/IllegalArgumentException" ({ cls := "java/lang/Throwable", name := "fillInStackTrace", desc := "()Ljava/lang/Throwable;" } : Jvm.MethodName) ({ cls := "java/lang/Throwable", name := "fillInStackTrace", desc := "()Ljava/lang/Throwable;" } : Jvm.MethodName)) ∈ lw_all := lw_g (lw_at lw_m3 84 rfl) rfl
theorem q629 : (Jvm.Cond.lays "java/lang/IllegalArgumentException" "java/lang/Throwable" "cause" "Ljava/lang/Throwable;") ∈ lw_all := lw_g (lw_at lw_m3 85 rfl) rfl
theorem q631 : (Jvm.Cond.lays "java/lang/IllegalArgumentException" "java/lang/Throwable" "stackTrace" "[Ljava/lang/StackTraceElement;") ∈ lw_all := lw_g (lw_at lw_m3 87 rfl) rfl
theorem q633 : (Jvm.Cond.lays "java/lang/IllegalArgumentException" "java/lang/Throwable" "suppressedExceptions" "Ljava/util/List;") ∈ lw_all := lw_g (lw_at lw_m3 89 rfl) rfl
theorem q635 : (Jvm.Cond.lays "java/lang/IllegalArgumentException" "java/lang/Throwable" "detailMessage" "Ljava/lang/String;") ∈ lw_all := lw_g (lw_at lw_m3 91 rfl) rfl
theorem q637 : (Jvm.Cond.lays "java/lang/IllegalArgumentException" "java/lang/Throwable" "backtrace" "Ljava/lang/Object;") ∈ lw_all := lw_g (lw_at lw_m3 93 rfl) rfl
theorem q669 : (Jvm.Cond.instanceMethod ({ cls := "java/lang/IllegalArgumentException", name := "<init>", desc := "(Ljava/lang/String;)V" } : Jvm.MethodName)) ∈ lw_all := lw_g (lw_at lw_m3 125 rfl) rfl
theorem q670 : (Jvm.Cond.code ({ cls := "java/lang/IllegalArgumentException", name := "<init>", desc := "(Ljava/lang/String;)V" } : Jvm.MethodName) prog_19_method_2_code (2 : Nat) (Option.none : Option Jvm.ClassFile.FieldType)) ∈ lw_all := lw_g (lw_at lw_m3 126 rfl) rfl
theorem q671 : (Jvm.Cond.methodLink "java/lang/IllegalArgumentException" (7 : Nat) ({ cls := "java/lang/RuntimeException", name := "<init>", desc := "(Ljava/lang/String;)V" } : Jvm.MethodName)) ∈ lw_all := lw_g (lw_at lw_m3 127 rfl) rfl
theorem q689 : (Jvm.Cond.lays "java/lang/IllegalArgumentException" "java/lang/Throwable" "depth" "I") ∈ lw_all := lw_g (lw_at lw_m3 145 rfl) rfl
theorem q692 : (Jvm.Cond.superclass "java/lang/IllegalArgumentException" "java/lang/RuntimeException") ∈ lw_all := lw_g (lw_at lw_m3 148 rfl) rfl
theorem q775 : (Jvm.Cond.instanceMethod ({ cls := "java/lang/IllegalArgumentException", name := "<init>", desc := "()V" } : Jvm.MethodName)) ∈ lw_all := lw_g (lw_at lw_m3 231 rfl) rfl
theorem q776 : (Jvm.Cond.code ({ cls := "java/lang/IllegalArgumentException", name := "<init>", desc := "()V" } : Jvm.MethodName) prog_19_method_1_code (1 : Nat) (Option.none : Option Jvm.ClassFile.FieldType)) ∈ lw_all := lw_g (lw_at lw_m3 232 rfl) rfl
theorem q777 : (Jvm.Cond.methodLink "java/lang/IllegalArgumentException" (1 : Nat) ({ cls := "java/lang/RuntimeException", name := "<init>", desc := "()V" } : Jvm.MethodName)) ∈ lw_all := lw_g (lw_at lw_m3 233 rfl) rfl
theorem q872 : (Jvm.Cond.selects "java/lang/IllegalArgumentException" ({ cls := "java/lang/Object", name := "getClass", desc := "()Ljava/lang/Class;" } : Jvm.MethodName) ({ cls := "java/lang/Object", name := "getClass", desc := "()Ljava/lang/Class;" } : Jvm.MethodName)) ∈ lw_all := lw_g (lw_at lw_m4 88 rfl) rfl
theorem q1673 : (Jvm.Cond.castable "java/lang/IllegalArgumentException" "java/lang/Object") ∈ lw_tbl := lw_at lw_m7 169 rfl
theorem in_J6 : ∀ w ∈ wsJ60, w ∈ lw_all := lw_in wsJ60 [629, 631, 633, 635, 637, 689] (by decide +kernel) (by decide +kernel)

/-! TraceWarden$Part -/
def RX10 : String := "TraceWarden$Part"
def TX10 : u_T := fun k => match k with
  | 0 => ("TraceWarden$Part", "kind", "LTraceWarden$Kind;", false)
  | 1 => ("TraceWarden$Part", "left", "LTraceWarden$Part;", false)
  | 2 => ("TraceWarden$Part", "right", "LTraceWarden$Part;", false)
  | 3 => ("TraceWarden$Part", "truth", "I", false)
  | 4 => ("TraceWarden$Part", "least", "I", false)
  | 5 => ("TraceWarden$Part", "most", "I", false)
  | 6 => ("TraceWarden$Part", "own", "I", false)
  | _ => ("TraceWarden$Part", "first", "I", false)
def tyX10 : Nat → FieldType := fun k => match k with
  | 0 => .object "TraceWarden$Kind"
  | 1 => .object "TraceWarden$Part"
  | 2 => .object "TraceWarden$Part"
  | 3 => .int
  | 4 => .int
  | 5 => .int
  | 6 => .int
  | _ => .int
abbrev wsX100 : List Cond := u_ws RX10 TX10 8
theorem nmX10 : ∀ a, a < 8 → ∀ b, b < 8 → a ≠ b → (TX10 a).2.1 ≠ (TX10 b).2.1 := by decide +kernel
theorem tyX10_ok : ∀ k, k < 8 → parseFieldDescriptor (TX10 k).2.2.1 = some (tyX10 k) := by decide +kernel
abbrev cX10_init : ByteArray := prog_7_method_1_code
def yX10_init : MethodName := ⟨RX10, "<init>", "()V"⟩
abbrev cX10_be : ByteArray := prog_7_method_2_code
def yX10_be : MethodName := ⟨RX10, "be", "(LTraceWarden$Kind;LTraceWarden$Part;LTraceWarden$Part;)LTraceWarden$Part;"⟩
abbrev cX10_be_2 : ByteArray := prog_7_method_3_code
def yX10_be_2 : MethodName := ⟨RX10, "be", "(I)LTraceWarden$Part;"⟩
theorem q81 : (Jvm.Cond.initialized "TraceWarden$Part") ∈ lw_all := lw_g (lw_at lw_m1 17 rfl) rfl
theorem q797 : (Jvm.Cond.instantiable "TraceWarden$Part" (8 : Nat)) ∈ lw_all := lw_g (lw_at lw_m4 13 rfl) rfl
theorem q799 : (Jvm.Cond.instanceMethod ({ cls := "TraceWarden$Part", name := "<init>", desc := "()V" } : Jvm.MethodName)) ∈ lw_all := lw_g (lw_at lw_m4 15 rfl) rfl
theorem q800 : (Jvm.Cond.code ({ cls := "TraceWarden$Part", name := "<init>", desc := "()V" } : Jvm.MethodName) prog_7_method_1_code (1 : Nat) (Option.none : Option Jvm.ClassFile.FieldType)) ∈ lw_all := lw_g (lw_at lw_m4 16 rfl) rfl
theorem q801 : (Jvm.Cond.methodLink "TraceWarden$Part" (3 : Nat) ({ cls := "java/lang/Object", name := "<init>", desc := "()V" } : Jvm.MethodName)) ∈ lw_all := lw_g (lw_at lw_m4 17 rfl) rfl
theorem q802 : (Jvm.Cond.fieldLink "TraceWarden$Part" (9 : Nat) "TraceWarden$Part" "kind" "LTraceWarden$Kind;") ∈ lw_all := lw_g (lw_at lw_m4 18 rfl) rfl
theorem q804 : (Jvm.Cond.fieldLink "TraceWarden$Part" (15 : Nat) "TraceWarden$Part" "left" "LTraceWarden$Part;") ∈ lw_all := lw_g (lw_at lw_m4 20 rfl) rfl
theorem q806 : (Jvm.Cond.fieldLink "TraceWarden$Part" (19 : Nat) "TraceWarden$Part" "right" "LTraceWarden$Part;") ∈ lw_all := lw_g (lw_at lw_m4 22 rfl) rfl
theorem q808 : (Jvm.Cond.fieldLink "TraceWarden$Part" (22 : Nat) "TraceWarden$Part" "truth" "I") ∈ lw_all := lw_g (lw_at lw_m4 24 rfl) rfl
theorem q815 : (Jvm.Cond.fieldLink "TraceWarden$Part" (26 : Nat) "TraceWarden$Part" "own" "I") ∈ lw_all := lw_g (lw_at lw_m4 31 rfl) rfl
theorem q818 : (Jvm.Cond.fieldLink "TraceWarden$Part" (29 : Nat) "TraceWarden$Part" "first" "I") ∈ lw_all := lw_g (lw_at lw_m4 34 rfl) rfl
theorem q820 : (Jvm.Cond.lays "TraceWarden$Part" "TraceWarden$Part" "kind" "LTraceWarden$Kind;") ∈ lw_all := lw_g (lw_at lw_m4 36 rfl) rfl
theorem q821 : (Jvm.Cond.soleField "TraceWarden$Part" "kind") ∈ lw_all := lw_g (lw_at lw_m4 37 rfl) rfl
theorem q822 : (Jvm.Cond.lays "TraceWarden$Part" "TraceWarden$Part" "left" "LTraceWarden$Part;") ∈ lw_all := lw_g (lw_at lw_m4 38 rfl) rfl
theorem q823 : (Jvm.Cond.soleField "TraceWarden$Part" "left") ∈ lw_all := lw_g (lw_at lw_m4 39 rfl) rfl
theorem q824 : (Jvm.Cond.lays "TraceWarden$Part" "TraceWarden$Part" "right" "LTraceWarden$Part;") ∈ lw_all := lw_g (lw_at lw_m4 40 rfl) rfl
theorem q825 : (Jvm.Cond.soleField "TraceWarden$Part" "right") ∈ lw_all := lw_g (lw_at lw_m4 41 rfl) rfl
theorem q826 : (Jvm.Cond.lays "TraceWarden$Part" "TraceWarden$Part" "truth" "I") ∈ lw_all := lw_g (lw_at lw_m4 42 rfl) rfl
theorem q827 : (Jvm.Cond.soleField "TraceWarden$Part" "truth") ∈ lw_all := lw_g (lw_at lw_m4 43 rfl) rfl
theorem q828 : (Jvm.Cond.lays "TraceWarden$Part" "TraceWarden$Part" "least" "I") ∈ lw_all := lw_g (lw_at lw_m4 44 rfl) rfl
theorem q829 : (Jvm.Cond.soleField "TraceWarden$Part" "least") ∈ lw_all := lw_g (lw_at lw_m4 45 rfl) rfl
theorem q830 : (Jvm.Cond.lays "TraceWarden$Part" "TraceWarden$Part" "most" "I") ∈ lw_all := lw_g (lw_at lw_m4 46 rfl) rfl
theorem q831 : (Jvm.Cond.soleField "TraceWarden$Part" "most") ∈ lw_all := lw_g (lw_at lw_m4 47 rfl) rfl
theorem q832 : (Jvm.Cond.lays "TraceWarden$Part" "TraceWarden$Part" "own" "I") ∈ lw_all := lw_g (lw_at lw_m4 48 rfl) rfl
theorem q833 : (Jvm.Cond.soleField "TraceWarden$Part" "own") ∈ lw_all := lw_g (lw_at lw_m4 49 rfl) rfl
theorem q834 : (Jvm.Cond.lays "TraceWarden$Part" "TraceWarden$Part" "first" "I") ∈ lw_all := lw_g (lw_at lw_m4 50 rfl) rfl
theorem q835 : (Jvm.Cond.soleField "TraceWarden$Part" "first") ∈ lw_all := lw_g (lw_at lw_m4 51 rfl) rfl
theorem q836 : (Jvm.Cond.superclass "TraceWarden$Part" "java/lang/Object") ∈ lw_all := lw_g (lw_at lw_m4 52 rfl) rfl
theorem q866 : (Jvm.Cond.selects "TraceWarden$Part" ({ cls := "java/lang/Object", name := "getClass", desc := "()Ljava/lang/Class;" } : Jvm.MethodName) ({ cls := "java/lang/Object", name := "getClass", desc := "()Ljava/lang/Class;" } : Jvm.MethodName)) ∈ lw_all := lw_g (lw_at lw_m4 82 rfl) rfl
theorem q906 : (Jvm.Cond.instanceMethod ({ cls := "TraceWarden$Part", name := "be", desc := "(LTraceWarden$Kind;LTraceWarden$Part;LTraceWarden$Part;)LTraceWarden$Part;" } : Jvm.MethodName)) ∈ lw_all := lw_g (lw_at lw_m4 122 rfl) rfl
theorem q907 : (Jvm.Cond.selects "TraceWarden$Part" ({ cls := "TraceWarden$Part", name := "be", desc := "(LTraceWarden$Kind;LTraceWarden$Part;LTraceWarden$Part;)LTraceWarden$Part;" } : Jvm.MethodName) ({ cls := "TraceWarden$Part", name := "be", desc := "(LTraceWarden$Kind;LTraceWarden$Part;LTraceWarden$Part;)LTraceWarden$Part;" } : Jvm.MethodName)) ∈ lw_all := lw_g (lw_at lw_m4 123 rfl) rfl
theorem q908 : (Jvm.Cond.code ({ cls := "TraceWarden$Part", name := "be", desc := "(LTraceWarden$Kind;LTraceWarden$Part;LTraceWarden$Part;)LTraceWarden$Part;" } : Jvm.MethodName) prog_7_method_2_code (4 : Nat) (Option.some (Jvm.ClassFile.FieldType.object "TraceWarden$Part"))) ∈ lw_all := lw_g (lw_at lw_m4 124 rfl) rfl
theorem q954 : (Jvm.Cond.instanceMethod ({ cls := "TraceWarden$Part", name := "be", desc := "(I)LTraceWarden$Part;" } : Jvm.MethodName)) ∈ lw_all := lw_g (lw_at lw_m4 170 rfl) rfl
theorem q955 : (Jvm.Cond.selects "TraceWarden$Part" ({ cls := "TraceWarden$Part", name := "be", desc := "(I)LTraceWarden$Part;" } : Jvm.MethodName) ({ cls := "TraceWarden$Part", name := "be", desc := "(I)LTraceWarden$Part;" } : Jvm.MethodName)) ∈ lw_all := lw_g (lw_at lw_m4 171 rfl) rfl
theorem q956 : (Jvm.Cond.code ({ cls := "TraceWarden$Part", name := "be", desc := "(I)LTraceWarden$Part;" } : Jvm.MethodName) prog_7_method_3_code (2 : Nat) (Option.some (Jvm.ClassFile.FieldType.object "TraceWarden$Part"))) ∈ lw_all := lw_g (lw_at lw_m4 172 rfl) rfl
theorem q957 : (Jvm.Cond.fieldLink "TraceWarden$Part" (32 : Nat) "TraceWarden$Kind" "TRUTH" "LTraceWarden$Kind;") ∈ lw_all := lw_g (lw_at lw_m4 173 rfl) rfl
theorem q959 : (Jvm.Cond.methodLink "TraceWarden$Part" (37 : Nat) ({ cls := "TraceWarden$Part", name := "be", desc := "(LTraceWarden$Kind;LTraceWarden$Part;LTraceWarden$Part;)LTraceWarden$Part;" } : Jvm.MethodName)) ∈ lw_all := lw_g (lw_at lw_m4 175 rfl) rfl
theorem q1659 : (Jvm.Cond.castable "TraceWarden$Part" "java/lang/Object") ∈ lw_tbl := lw_at lw_m7 155 rfl
theorem in_X10 : ∀ w ∈ wsX100, w ∈ lw_all := lw_in wsX100 [820, 822, 824, 826, 828, 830, 832, 834] (by decide +kernel) (by decide +kernel)

/-! jdk/internal/util/ArraysSupport -/
def RJ7 : String := "jdk/internal/util/ArraysSupport"
abbrev cJ7_newLength : ByteArray := prog_43_method_27_code
def yJ7_newLength : MethodName := ⟨RJ7, "newLength", "(III)I"⟩
abbrev cJ7_hugeLength : ByteArray := prog_43_method_28_code
def yJ7_hugeLength : MethodName := ⟨RJ7, "hugeLength", "(II)I"⟩
theorem q82 : (Jvm.Cond.initialized "jdk/internal/util/ArraysSupport") ∈ lw_all := lw_g (lw_at lw_m1 18 rfl) rfl
theorem q457 : (Jvm.Cond.static ({ cls := "jdk/internal/util/ArraysSupport", name := "newLength", desc := "(III)I" } : Jvm.MethodName)) ∈ lw_all := lw_g (lw_at lw_m2 153 rfl) rfl
theorem q458 : (Jvm.Cond.code ({ cls := "jdk/internal/util/ArraysSupport", name := "newLength", desc := "(III)I" } : Jvm.MethodName) prog_43_method_27_code (4 : Nat) (Option.some Jvm.ClassFile.FieldType.int)) ∈ lw_all := lw_g (lw_at lw_m2 154 rfl) rfl
theorem q459 : (Jvm.Cond.methodLink "jdk/internal/util/ArraysSupport" (194 : Nat) ({ cls := "java/lang/Math", name := "max", desc := "(II)I" } : Jvm.MethodName)) ∈ lw_all := lw_g (lw_at lw_m2 155 rfl) rfl
theorem q462 : (Jvm.Cond.constant "jdk/internal/util/ArraysSupport" (200 : Nat) (2147483639 : Int32)) ∈ lw_all := lw_g (lw_at lw_m2 158 rfl) rfl
theorem q463 : (Jvm.Cond.methodLink "jdk/internal/util/ArraysSupport" (201 : Nat) ({ cls := "jdk/internal/util/ArraysSupport", name := "hugeLength", desc := "(II)I" } : Jvm.MethodName)) ∈ lw_all := lw_g (lw_at lw_m2 159 rfl) rfl
theorem q464 : (Jvm.Cond.static ({ cls := "jdk/internal/util/ArraysSupport", name := "hugeLength", desc := "(II)I" } : Jvm.MethodName)) ∈ lw_all := lw_g (lw_at lw_m2 160 rfl) rfl
theorem q465 : (Jvm.Cond.code ({ cls := "jdk/internal/util/ArraysSupport", name := "hugeLength", desc := "(II)I" } : Jvm.MethodName) prog_43_method_28_code (3 : Nat) (Option.some Jvm.ClassFile.FieldType.int)) ∈ lw_all := lw_g (lw_at lw_m2 161 rfl) rfl

/-! java/lang/Math -/
def RJ8 : String := "java/lang/Math"
abbrev cJ8_max : ByteArray := prog_24_method_65_code
def yJ8_max : MethodName := ⟨RJ8, "max", "(II)I"⟩
abbrev cJ8_min : ByteArray := prog_24_method_69_code
def yJ8_min : MethodName := ⟨RJ8, "min", "(II)I"⟩
theorem q83 : (Jvm.Cond.initialized "java/lang/Math") ∈ lw_all := lw_g (lw_at lw_m1 19 rfl) rfl
theorem q460 : (Jvm.Cond.static ({ cls := "java/lang/Math", name := "max", desc := "(II)I" } : Jvm.MethodName)) ∈ lw_all := lw_g (lw_at lw_m2 156 rfl) rfl
theorem q461 : (Jvm.Cond.code ({ cls := "java/lang/Math", name := "max", desc := "(II)I" } : Jvm.MethodName) prog_24_method_65_code (2 : Nat) (Option.some Jvm.ClassFile.FieldType.int)) ∈ lw_all := lw_g (lw_at lw_m2 157 rfl) rfl
theorem q478 : (Jvm.Cond.static ({ cls := "java/lang/Math", name := "min", desc := "(II)I" } : Jvm.MethodName)) ∈ lw_all := lw_g (lw_at lw_m2 174 rfl) rfl
theorem q479 : (Jvm.Cond.code ({ cls := "java/lang/Math", name := "min", desc := "(II)I" } : Jvm.MethodName) prog_24_method_69_code (2 : Nat) (Option.some Jvm.ClassFile.FieldType.int)) ∈ lw_all := lw_g (lw_at lw_m2 175 rfl) rfl

/-! java/util/Arrays -/
def RJ9 : String := "java/util/Arrays"
abbrev cJ9_copyOf : ByteArray := prog_36_method_121_code
def yJ9_copyOf : MethodName := ⟨RJ9, "copyOf", "([BI)[B"⟩
abbrev cJ9_copyOfRange : ByteArray := prog_36_method_132_code
def yJ9_copyOfRange : MethodName := ⟨RJ9, "copyOfRange", "([BII)[B"⟩
abbrev cJ9_copyOfRangeByte : ByteArray := prog_36_method_133_code
def yJ9_copyOfRangeByte : MethodName := ⟨RJ9, "copyOfRangeByte", "([BII)[B"⟩
abbrev cJ9_checkLength : ByteArray := prog_36_method_131_code
def yJ9_checkLength : MethodName := ⟨RJ9, "checkLength", "(II)V"⟩
abbrev cJ9_copyOf_2 : ByteArray := prog_36_method_119_code
def yJ9_copyOf_2 : MethodName := ⟨RJ9, "copyOf", "([Ljava/lang/Object;I)[Ljava/lang/Object;"⟩
abbrev cJ9_copyOf_3 : ByteArray := prog_36_method_120_code
def yJ9_copyOf_3 : MethodName := ⟨RJ9, "copyOf", "([Ljava/lang/Object;ILjava/lang/Class;)[Ljava/lang/Object;"⟩
theorem q84 : (Jvm.Cond.initialized "java/util/Arrays") ∈ lw_all := lw_g (lw_at lw_m1 20 rfl) rfl
theorem q468 : (Jvm.Cond.static ({ cls := "java/util/Arrays", name := "copyOf", desc := "([BI)[B" } : Jvm.MethodName)) ∈ lw_all := lw_g (lw_at lw_m2 164 rfl) rfl
theorem q469 : (Jvm.Cond.code ({ cls := "java/util/Arrays", name := "copyOf", desc := "([BI)[B" } : Jvm.MethodName) prog_36_method_121_code (3 : Nat) (Option.some (Jvm.ClassFile.FieldType.array Jvm.ClassFile.FieldType.byte))) ∈ lw_all := lw_g (lw_at lw_m2 165 rfl) rfl
theorem q470 : (Jvm.Cond.methodLink "java/util/Arrays" (310 : Nat) ({ cls := "[B", name := "clone", desc := "()Ljava/lang/Object;" } : Jvm.MethodName)) ∈ lw_all := lw_g (lw_at lw_m2 166 rfl) rfl
theorem q476 : (Jvm.Cond.classLink "java/util/Arrays" (311 : Nat) "[B") ∈ lw_all := lw_g (lw_at lw_m2 172 rfl) rfl
theorem q477 : (Jvm.Cond.methodLink "java/util/Arrays" (304 : Nat) ({ cls := "java/lang/Math", name := "min", desc := "(II)I" } : Jvm.MethodName)) ∈ lw_all := lw_g (lw_at lw_m2 173 rfl) rfl
theorem q480 : (Jvm.Cond.methodLink "java/util/Arrays" (150 : Nat) ({ cls := "java/lang/System", name := "arraycopy", desc := "(Ljava/lang/Object;ILjava/lang/Object;II)V" } : Jvm.MethodName)) ∈ lw_all := lw_g (lw_at lw_m2 176 rfl) rfl
theorem q610 : (Jvm.Cond.static ({ cls := "java/util/Arrays", name := "copyOfRange", desc := "([BII)[B" } : Jvm.MethodName)) ∈ lw_all := lw_g (lw_at lw_m3 66 rfl) rfl
theorem q611 : (Jvm.Cond.code ({ cls := "java/util/Arrays", name := "copyOfRange", desc := "([BII)[B" } : Jvm.MethodName) prog_36_method_132_code (3 : Nat) (Option.some (Jvm.ClassFile.FieldType.array Jvm.ClassFile.FieldType.byte))) ∈ lw_all := lw_g (lw_at lw_m3 67 rfl) rfl
theorem q612 : (Jvm.Cond.methodLink "java/util/Arrays" (339 : Nat) ({ cls := "java/util/Arrays", name := "copyOfRangeByte", desc := "([BII)[B" } : Jvm.MethodName)) ∈ lw_all := lw_g (lw_at lw_m3 68 rfl) rfl
theorem q613 : (Jvm.Cond.static ({ cls := "java/util/Arrays", name := "copyOfRangeByte", desc := "([BII)[B" } : Jvm.MethodName)) ∈ lw_all := lw_g (lw_at lw_m3 69 rfl) rfl
theorem q614 : (Jvm.Cond.code ({ cls := "java/util/Arrays", name := "copyOfRangeByte", desc := "([BII)[B" } : Jvm.MethodName) prog_36_method_133_code (5 : Nat) (Option.some (Jvm.ClassFile.FieldType.array Jvm.ClassFile.FieldType.byte))) ∈ lw_all := lw_g (lw_at lw_m3 70 rfl) rfl
theorem q615 : (Jvm.Cond.methodLink "java/util/Arrays" (343 : Nat) ({ cls := "java/util/Arrays", name := "checkLength", desc := "(II)V" } : Jvm.MethodName)) ∈ lw_all := lw_g (lw_at lw_m3 71 rfl) rfl
theorem q616 : (Jvm.Cond.static ({ cls := "java/util/Arrays", name := "checkLength", desc := "(II)V" } : Jvm.MethodName)) ∈ lw_all := lw_g (lw_at lw_m3 72 rfl) rfl
theorem q617 : (Jvm.Cond.code ({ cls := "java/util/Arrays", name := "checkLength", desc := "(II)V" } : Jvm.MethodName) prog_36_method_131_code (2 : Nat) (Option.none : Option Jvm.ClassFile.FieldType)) ∈ lw_all := lw_g (lw_at lw_m3 73 rfl) rfl
theorem q618 : (Jvm.Cond.classLink "java/util/Arrays" (43 : Nat) "java/lang/IllegalArgumentException") ∈ lw_all := lw_g (lw_at lw_m3 74 rfl) rfl
theorem q662 : (Jvm.Cond.classLink "java/util/Arrays" (45 : Nat) "java/lang/StringBuilder") ∈ lw_all := lw_g (lw_at lw_m3 118 rfl) rfl
theorem q663 : (Jvm.Cond.methodLink "java/util/Arrays" (47 : Nat) ({ cls := "java/lang/StringBuilder", name := "<init>", desc := "()V" } : Jvm.MethodName)) ∈ lw_all := lw_g (lw_at lw_m3 119 rfl) rfl
theorem q664 : (Jvm.Cond.methodLink "java/util/Arrays" (54 : Nat) ({ cls := "java/lang/StringBuilder", name := "append", desc := "(I)Ljava/lang/StringBuilder;" } : Jvm.MethodName)) ∈ lw_all := lw_g (lw_at lw_m3 120 rfl) rfl
theorem q665 : (Jvm.Cond.stringRef "java/util/Arrays" (337 : Nat) " > ") ∈ lw_tbl := lw_at lw_m3 121 rfl
theorem q666 : (Jvm.Cond.methodLink "java/util/Arrays" (50 : Nat) ({ cls := "java/lang/StringBuilder", name := "append", desc := "(Ljava/lang/String;)Ljava/lang/StringBuilder;" } : Jvm.MethodName)) ∈ lw_all := lw_g (lw_at lw_m3 122 rfl) rfl
theorem q667 : (Jvm.Cond.methodLink "java/util/Arrays" (61 : Nat) ({ cls := "java/lang/StringBuilder", name := "toString", desc := "()Ljava/lang/String;" } : Jvm.MethodName)) ∈ lw_all := lw_g (lw_at lw_m3 123 rfl) rfl
theorem q668 : (Jvm.Cond.methodLink "java/util/Arrays" (65 : Nat) ({ cls := "java/lang/IllegalArgumentException", name := "<init>", desc := "(Ljava/lang/String;)V" } : Jvm.MethodName)) ∈ lw_all := lw_g (lw_at lw_m3 124 rfl) rfl
theorem q855 : (Jvm.Cond.static ({ cls := "java/util/Arrays", name := "copyOf", desc := "([Ljava/lang/Object;I)[Ljava/lang/Object;" } : Jvm.MethodName)) ∈ lw_all := lw_g (lw_at lw_m4 71 rfl) rfl
theorem q856 : (Jvm.Cond.code ({ cls := "java/util/Arrays", name := "copyOf", desc := "([Ljava/lang/Object;I)[Ljava/lang/Object;" } : Jvm.MethodName) prog_36_method_119_code (2 : Nat) (Option.some (Jvm.ClassFile.FieldType.array (Jvm.ClassFile.FieldType.object "java/lang/Object")))) ∈ lw_all := lw_g (lw_at lw_m4 72 rfl) rfl
theorem q857 : (Jvm.Cond.methodLink "java/util/Arrays" (86 : Nat) ({ cls := "java/lang/Object", name := "getClass", desc := "()Ljava/lang/Class;" } : Jvm.MethodName)) ∈ lw_all := lw_g (lw_at lw_m4 73 rfl) rfl
theorem q881 : (Jvm.Cond.methodLink "java/util/Arrays" (300 : Nat) ({ cls := "java/util/Arrays", name := "copyOf", desc := "([Ljava/lang/Object;ILjava/lang/Class;)[Ljava/lang/Object;" } : Jvm.MethodName)) ∈ lw_all := lw_g (lw_at lw_m4 97 rfl) rfl
theorem q882 : (Jvm.Cond.static ({ cls := "java/util/Arrays", name := "copyOf", desc := "([Ljava/lang/Object;ILjava/lang/Class;)[Ljava/lang/Object;" } : Jvm.MethodName)) ∈ lw_all := lw_g (lw_at lw_m4 98 rfl) rfl
theorem q883 : (Jvm.Cond.code ({ cls := "java/util/Arrays", name := "copyOf", desc := "([Ljava/lang/Object;ILjava/lang/Class;)[Ljava/lang/Object;" } : Jvm.MethodName) prog_36_method_120_code (4 : Nat) (Option.some (Jvm.ClassFile.FieldType.array (Jvm.ClassFile.FieldType.object "java/lang/Object")))) ∈ lw_all := lw_g (lw_at lw_m4 99 rfl) rfl
theorem q884 : (Jvm.Cond.classLink "java/util/Arrays" (110 : Nat) "[Ljava/lang/Object;") ∈ lw_all := lw_g (lw_at lw_m4 100 rfl) rfl
theorem q886 : (Jvm.Cond.classLink "java/util/Arrays" (2 : Nat) "java/lang/Object") ∈ lw_all := lw_g (lw_at lw_m4 102 rfl) rfl

/-! java/util/Objects -/
def RJ10 : String := "java/util/Objects"
abbrev cJ10_checkIndex : ByteArray := prog_40_method_17_code
def yJ10_checkIndex : MethodName := ⟨RJ10, "checkIndex", "(II)I"⟩
theorem q86 : (Jvm.Cond.initialized "java/util/Objects") ∈ lw_all := lw_g (lw_at lw_m1 22 rfl) rfl
theorem q894 : (Jvm.Cond.static ({ cls := "java/util/Objects", name := "checkIndex", desc := "(II)I" } : Jvm.MethodName)) ∈ lw_all := lw_g (lw_at lw_m4 110 rfl) rfl
theorem q895 : (Jvm.Cond.code ({ cls := "java/util/Objects", name := "checkIndex", desc := "(II)I" } : Jvm.MethodName) prog_40_method_17_code (2 : Nat) (Option.some Jvm.ClassFile.FieldType.int)) ∈ lw_all := lw_g (lw_at lw_m4 111 rfl) rfl
theorem q896 : (Jvm.Cond.methodLink "java/util/Objects" (105 : Nat) ({ cls := "jdk/internal/util/Preconditions", name := "checkIndex", desc := "(IILjava/util/function/BiFunction;)I" } : Jvm.MethodName)) ∈ lw_all := lw_g (lw_at lw_m4 112 rfl) rfl

/-! jdk/internal/util/Preconditions -/
def RJ11 : String := "jdk/internal/util/Preconditions"
abbrev cJ11_checkFromToIndex : ByteArray := prog_44_method_12_code
def yJ11_checkFromToIndex : MethodName := ⟨RJ11, "checkFromToIndex", "(IIILjava/util/function/BiFunction;)I"⟩
abbrev cJ11_checkFromIndexSize : ByteArray := prog_44_method_13_code
def yJ11_checkFromIndexSize : MethodName := ⟨RJ11, "checkFromIndexSize", "(IIILjava/util/function/BiFunction;)I"⟩
abbrev cJ11_checkIndex : ByteArray := prog_44_method_11_code
def yJ11_checkIndex : MethodName := ⟨RJ11, "checkIndex", "(IILjava/util/function/BiFunction;)I"⟩
theorem q87 : (Jvm.Cond.initialized "jdk/internal/util/Preconditions") ∈ lw_all := lw_g (lw_at lw_m1 23 rfl) rfl
theorem q501 : (Jvm.Cond.laysStatic "jdk/internal/util/Preconditions" "SIOOBE_FORMATTER" "Ljava/util/function/BiFunction;") ∈ lw_tbl := lw_at lw_m2 197 rfl
theorem q503 : (Jvm.Cond.static ({ cls := "jdk/internal/util/Preconditions", name := "checkFromToIndex", desc := "(IIILjava/util/function/BiFunction;)I" } : Jvm.MethodName)) ∈ lw_all := lw_g (lw_at lw_m2 199 rfl) rfl
theorem q504 : (Jvm.Cond.code ({ cls := "jdk/internal/util/Preconditions", name := "checkFromToIndex", desc := "(IIILjava/util/function/BiFunction;)I" } : Jvm.MethodName) prog_44_method_12_code (4 : Nat) (Option.some Jvm.ClassFile.FieldType.int)) ∈ lw_all := lw_g (lw_at lw_m2 200 rfl) rfl
theorem q549 : (Jvm.Cond.static ({ cls := "jdk/internal/util/Preconditions", name := "checkFromIndexSize", desc := "(IIILjava/util/function/BiFunction;)I" } : Jvm.MethodName)) ∈ lw_all := lw_g (lw_at lw_m3 5 rfl) rfl
theorem q550 : (Jvm.Cond.code ({ cls := "jdk/internal/util/Preconditions", name := "checkFromIndexSize", desc := "(IIILjava/util/function/BiFunction;)I" } : Jvm.MethodName) prog_44_method_13_code (4 : Nat) (Option.some Jvm.ClassFile.FieldType.int)) ∈ lw_all := lw_g (lw_at lw_m3 6 rfl) rfl
theorem q744 : (Jvm.Cond.static ({ cls := "jdk/internal/util/Preconditions", name := "checkIndex", desc := "(IILjava/util/function/BiFunction;)I" } : Jvm.MethodName)) ∈ lw_all := lw_g (lw_at lw_m3 200 rfl) rfl
theorem q745 : (Jvm.Cond.code ({ cls := "jdk/internal/util/Preconditions", name := "checkIndex", desc := "(IILjava/util/function/BiFunction;)I" } : Jvm.MethodName) prog_44_method_11_code (3 : Nat) (Option.some Jvm.ClassFile.FieldType.int)) ∈ lw_all := lw_g (lw_at lw_m3 201 rfl) rfl

/-! java/lang/Enum -/
def RJ12 : String := "java/lang/Enum"
abbrev cJ12_ordinal : ByteArray := prog_17_method_2_code
def yJ12_ordinal : MethodName := ⟨RJ12, "ordinal", "()I"⟩
theorem q88 : (Jvm.Cond.initialized "java/lang/Enum") ∈ lw_all := lw_g (lw_at lw_m1 24 rfl) rfl
theorem q991 : (Jvm.Cond.declares ({ cls := "java/lang/Enum", name := "ordinal", desc := "()I" } : Jvm.MethodName)) ∈ lw_tbl := lw_at lw_m4 207 rfl
theorem q993 : (Jvm.Cond.instanceMethod ({ cls := "java/lang/Enum", name := "ordinal", desc := "()I" } : Jvm.MethodName)) ∈ lw_all := lw_g (lw_at lw_m4 209 rfl) rfl
theorem q994 : (Jvm.Cond.code ({ cls := "java/lang/Enum", name := "ordinal", desc := "()I" } : Jvm.MethodName) prog_17_method_2_code (1 : Nat) (Option.some Jvm.ClassFile.FieldType.int)) ∈ lw_all := lw_g (lw_at lw_m4 210 rfl) rfl
theorem q1693 : (Jvm.Cond.fieldLink "java/lang/Enum" (7 : Nat) "java/lang/Enum" "ordinal" "I") ∈ lw_all := lw_g (lw_at lw_m7 189 rfl) rfl

/-! java/lang/UnsupportedOperationException -/
def RJ13 : String := "java/lang/UnsupportedOperationException"
def TJ13 : u_T := fun k => match k with
  | 0 => ("java/lang/Throwable", "cause", "Ljava/lang/Throwable;", false)
  | 1 => ("java/lang/Throwable", "stackTrace", "[Ljava/lang/StackTraceElement;", false)
  | 2 => ("java/lang/Throwable", "suppressedExceptions", "Ljava/util/List;", false)
  | 3 => ("java/lang/Throwable", "detailMessage", "Ljava/lang/String;", false)
  | 4 => ("java/lang/Throwable", "backtrace", "Ljava/lang/Object;", false)
  | _ => ("java/lang/Throwable", "depth", "I", false)
def tyJ13 : Nat → FieldType := fun k => match k with
  | 0 => .object "java/lang/Throwable"
  | 1 => .array (.object "java/lang/StackTraceElement")
  | 2 => .object "java/util/List"
  | 3 => .object "java/lang/String"
  | 4 => .object "java/lang/Object"
  | _ => .int
abbrev wsJ130 : List Cond := u_ws RJ13 TJ13 6
theorem nmJ13 : ∀ a, a < 6 → ∀ b, b < 6 → a ≠ b → (TJ13 a).2.1 ≠ (TJ13 b).2.1 := by decide +kernel
theorem tyJ13_ok : ∀ k, k < 6 → parseFieldDescriptor (TJ13 k).2.2.1 = some (tyJ13 k) := by decide +kernel
abbrev cJ13_init : ByteArray := prog_32_method_1_code
def yJ13_init : MethodName := ⟨RJ13, "<init>", "()V"⟩
theorem q90 : (Jvm.Cond.initialized "java/lang/UnsupportedOperationException") ∈ lw_all := lw_g (lw_at lw_m1 26 rfl) rfl
theorem q654 : (Jvm.Cond.selects "java/lang/UnsupportedOperationException" ({ cls := "java/lang/Throwable", name := "fillInStackTrace", desc := "()Ljava/lang/Throwable;" } : Jvm.MethodName) ({ cls := "java/lang/Throwable", name := "fillInStackTrace", desc := "()Ljava/lang/Throwable;" } : Jvm.MethodName)) ∈ lw_all := lw_g (lw_at lw_m3 110 rfl) rfl
theorem q877 : (Jvm.Cond.selects "java/lang/UnsupportedOperationException" ({ cls := "java/lang/Object", name := "getClass", desc := "()Ljava/lang/Class;" } : Jvm.MethodName) ({ cls := "java/lang/Object", name := "getClass", desc := "()Ljava/lang/Class;" } : Jvm.MethodName)) ∈ lw_all := lw_g (lw_at lw_m4 93 rfl) rfl
theorem q975 : (Jvm.Cond.instantiable "java/lang/UnsupportedOperationException" (6 : Nat)) ∈ lw_all := lw_g (lw_at lw_m4 191 rfl) rfl
theorem q976 : (Jvm.Cond.castable "java/lang/UnsupportedOperationException" "java/lang/UnsupportedOperationException") ∈ lw_tbl := lw_at lw_m4 192 rfl
theorem q977 : (Jvm.Cond.selects "java/lang/UnsupportedOperationException" ({ cls := "java/lang/Throwable", name := "fillInStackTrace", desc := "(I)Ljava/lang/Throwable;" } : Jvm.MethodName) ({ cls := "java/lang/Throwable", name := "fillInStackTrace", desc := "(I)Ljava/lang/Throwable;" } : Jvm.MethodName)) ∈ lw_all := lw_g (lw_at lw_m4 193 rfl) rfl
theorem q978 : (Jvm.Cond.lays "java/lang/UnsupportedOperationException" "java/lang/Throwable" "cause" "Ljava/lang/Throwable;") ∈ lw_all := lw_g (lw_at lw_m4 194 rfl) rfl
theorem q979 : (Jvm.Cond.lays "java/lang/UnsupportedOperationException" "java/lang/Throwable" "stackTrace" "[Ljava/lang/StackTraceElement;") ∈ lw_all := lw_g (lw_at lw_m4 195 rfl) rfl
theorem q980 : (Jvm.Cond.lays "java/lang/UnsupportedOperationException" "java/lang/Throwable" "suppressedExceptions" "Ljava/util/List;") ∈ lw_all := lw_g (lw_at lw_m4 196 rfl) rfl
theorem q981 : (Jvm.Cond.lays "java/lang/UnsupportedOperationException" "java/lang/Throwable" "detailMessage" "Ljava/lang/String;") ∈ lw_all := lw_g (lw_at lw_m4 197 rfl) rfl
theorem q982 : (Jvm.Cond.lays "java/lang/UnsupportedOperationException" "java/lang/Throwable" "backtrace" "Ljava/lang/Object;") ∈ lw_all := lw_g (lw_at lw_m4 198 rfl) rfl
theorem q984 : (Jvm.Cond.instanceMethod ({ cls := "java/lang/UnsupportedOperationException", name := "<init>", desc := "()V" } : Jvm.MethodName)) ∈ lw_all := lw_g (lw_at lw_m4 200 rfl) rfl
theorem q985 : (Jvm.Cond.code ({ cls := "java/lang/UnsupportedOperationException", name := "<init>", desc := "()V" } : Jvm.MethodName) prog_32_method_1_code (1 : Nat) (Option.none : Option Jvm.ClassFile.FieldType)) ∈ lw_all := lw_g (lw_at lw_m4 201 rfl) rfl
theorem q986 : (Jvm.Cond.methodLink "java/lang/UnsupportedOperationException" (1 : Nat) ({ cls := "java/lang/RuntimeException", name := "<init>", desc := "()V" } : Jvm.MethodName)) ∈ lw_all := lw_g (lw_at lw_m4 202 rfl) rfl
theorem q987 : (Jvm.Cond.lays "java/lang/UnsupportedOperationException" "java/lang/Throwable" "depth" "I") ∈ lw_all := lw_g (lw_at lw_m4 203 rfl) rfl
theorem q988 : (Jvm.Cond.superclass "java/lang/UnsupportedOperationException" "java/lang/RuntimeException") ∈ lw_all := lw_g (lw_at lw_m4 204 rfl) rfl
theorem q1674 : (Jvm.Cond.castable "java/lang/UnsupportedOperationException" "java/lang/Object") ∈ lw_tbl := lw_at lw_m7 170 rfl
theorem in_J13 : ∀ w ∈ wsJ130, w ∈ lw_all := lw_in wsJ130 [978, 979, 980, 981, 982, 987] (by decide +kernel) (by decide +kernel)

/-! java/lang/IllegalStateException -/
def RJ14 : String := "java/lang/IllegalStateException"
def TJ14 : u_T := fun k => match k with
  | 0 => ("java/lang/Throwable", "cause", "Ljava/lang/Throwable;", false)
  | 1 => ("java/lang/Throwable", "stackTrace", "[Ljava/lang/StackTraceElement;", false)
  | 2 => ("java/lang/Throwable", "suppressedExceptions", "Ljava/util/List;", false)
  | 3 => ("java/lang/Throwable", "detailMessage", "Ljava/lang/String;", false)
  | 4 => ("java/lang/Throwable", "backtrace", "Ljava/lang/Object;", false)
  | _ => ("java/lang/Throwable", "depth", "I", false)
def tyJ14 : Nat → FieldType := fun k => match k with
  | 0 => .object "java/lang/Throwable"
  | 1 => .array (.object "java/lang/StackTraceElement")
  | 2 => .object "java/util/List"
  | 3 => .object "java/lang/String"
  | 4 => .object "java/lang/Object"
  | _ => .int
abbrev wsJ140 : List Cond := u_ws RJ14 TJ14 6
theorem nmJ14 : ∀ a, a < 6 → ∀ b, b < 6 → a ≠ b → (TJ14 a).2.1 ≠ (TJ14 b).2.1 := by decide +kernel
theorem tyJ14_ok : ∀ k, k < 6 → parseFieldDescriptor (TJ14 k).2.2.1 = some (tyJ14 k) := by decide +kernel
abbrev cJ14_init : ByteArray := prog_20_method_1_code
def yJ14_init : MethodName := ⟨RJ14, "<init>", "()V"⟩
theorem q91 : (Jvm.Cond.initialized "java/lang/IllegalStateException") ∈ lw_all := lw_g (lw_at lw_m1 27 rfl) rfl
theorem q652 : (Jvm.Cond.selects "java/lang/IllegalStateException" ({ cls := "java/lang/Throwable", name := "fillInStackTrace", desc := "()Ljava/lang/Throwable;" } : Jvm.MethodName) ({ cls := "java/lang/Throwable", name := "fillInStackTrace", desc := "()Ljava/lang/Throwable;" } : Jvm.MethodName)) ∈ lw_all := lw_g (lw_at lw_m3 108 rfl) rfl
theorem q873 : (Jvm.Cond.selects "java/lang/IllegalStateException" ({ cls := "java/lang/Object", name := "getClass", desc := "()Ljava/lang/Class;" } : Jvm.MethodName) ({ cls := "java/lang/Object", name := "getClass", desc := "()Ljava/lang/Class;" } : Jvm.MethodName)) ∈ lw_all := lw_g (lw_at lw_m4 89 rfl) rfl
theorem q1097 : (Jvm.Cond.instantiable "java/lang/IllegalStateException" (6 : Nat)) ∈ lw_all := lw_g (lw_at lw_m5 73 rfl) rfl
theorem q1098 : (Jvm.Cond.castable "java/lang/IllegalStateException" "java/lang/IllegalStateException") ∈ lw_tbl := lw_at lw_m5 74 rfl
theorem q1099 : (Jvm.Cond.selects "java/lang/IllegalStateException" ({ cls := "java/lang/Throwable", name := "fillInStackTrace", desc := "(I)Ljava/lang/Throwable;" } : Jvm.MethodName) ({ cls := "java/lang/Throwable", name := "fillInStackTrace", desc := "(I)Ljava/lang/Throwable;" } : Jvm.MethodName)) ∈ lw_all := lw_g (lw_at lw_m5 75 rfl) rfl
theorem q1100 : (Jvm.Cond.lays "java/lang/IllegalStateException" "java/lang/Throwable" "cause" "Ljava/lang/Throwable;") ∈ lw_all := lw_g (lw_at lw_m5 76 rfl) rfl
theorem q1101 : (Jvm.Cond.lays "java/lang/IllegalStateException" "java/lang/Throwable" "stackTrace" "[Ljava/lang/StackTraceElement;") ∈ lw_all := lw_g (lw_at lw_m5 77 rfl) rfl
theorem q1102 : (Jvm.Cond.lays "java/lang/IllegalStateException" "java/lang/Throwable" "suppressedExceptions" "Ljava/util/List;") ∈ lw_all := lw_g (lw_at lw_m5 78 rfl) rfl
theorem q1103 : (Jvm.Cond.lays "java/lang/IllegalStateException" "java/lang/Throwable" "detailMessage" "Ljava/lang/String;") ∈ lw_all := lw_g (lw_at lw_m5 79 rfl) rfl
theorem q1104 : (Jvm.Cond.lays "java/lang/IllegalStateException" "java/lang/Throwable" "backtrace" "Ljava/lang/Object;") ∈ lw_all := lw_g (lw_at lw_m5 80 rfl) rfl
theorem q1106 : (Jvm.Cond.instanceMethod ({ cls := "java/lang/IllegalStateException", name := "<init>", desc := "()V" } : Jvm.MethodName)) ∈ lw_all := lw_g (lw_at lw_m5 82 rfl) rfl
theorem q1107 : (Jvm.Cond.code ({ cls := "java/lang/IllegalStateException", name := "<init>", desc := "()V" } : Jvm.MethodName) prog_20_method_1_code (1 : Nat) (Option.none : Option Jvm.ClassFile.FieldType)) ∈ lw_all := lw_g (lw_at lw_m5 83 rfl) rfl
theorem q1108 : (Jvm.Cond.methodLink "java/lang/IllegalStateException" (1 : Nat) ({ cls := "java/lang/RuntimeException", name := "<init>", desc := "()V" } : Jvm.MethodName)) ∈ lw_all := lw_g (lw_at lw_m5 84 rfl) rfl
theorem q1109 : (Jvm.Cond.lays "java/lang/IllegalStateException" "java/lang/Throwable" "depth" "I") ∈ lw_all := lw_g (lw_at lw_m5 85 rfl) rfl
theorem q1110 : (Jvm.Cond.superclass "java/lang/IllegalStateException" "java/lang/RuntimeException") ∈ lw_all := lw_g (lw_at lw_m5 86 rfl) rfl
theorem q1675 : (Jvm.Cond.castable "java/lang/IllegalStateException" "java/lang/Object") ∈ lw_tbl := lw_at lw_m7 171 rfl
theorem in_J14 : ∀ w ∈ wsJ140, w ∈ lw_all := lw_in wsJ140 [1100, 1101, 1102, 1103, 1104, 1109] (by decide +kernel) (by decide +kernel)

/-! java/util/NoSuchElementException -/
def RJ15 : String := "java/util/NoSuchElementException"
def TJ15 : u_T := fun k => match k with
  | 0 => ("java/lang/Throwable", "cause", "Ljava/lang/Throwable;", false)
  | 1 => ("java/lang/Throwable", "stackTrace", "[Ljava/lang/StackTraceElement;", false)
  | 2 => ("java/lang/Throwable", "suppressedExceptions", "Ljava/util/List;", false)
  | 3 => ("java/lang/Throwable", "detailMessage", "Ljava/lang/String;", false)
  | 4 => ("java/lang/Throwable", "backtrace", "Ljava/lang/Object;", false)
  | _ => ("java/lang/Throwable", "depth", "I", false)
def tyJ15 : Nat → FieldType := fun k => match k with
  | 0 => .object "java/lang/Throwable"
  | 1 => .array (.object "java/lang/StackTraceElement")
  | 2 => .object "java/util/List"
  | 3 => .object "java/lang/String"
  | 4 => .object "java/lang/Object"
  | _ => .int
abbrev wsJ150 : List Cond := u_ws RJ15 TJ15 6
theorem nmJ15 : ∀ a, a < 6 → ∀ b, b < 6 → a ≠ b → (TJ15 a).2.1 ≠ (TJ15 b).2.1 := by decide +kernel
theorem tyJ15_ok : ∀ k, k < 6 → parseFieldDescriptor (TJ15 k).2.2.1 = some (tyJ15 k) := by decide +kernel
abbrev cJ15_init : ByteArray := prog_39_method_1_code
def yJ15_init : MethodName := ⟨RJ15, "<init>", "()V"⟩
theorem q92 : (Jvm.Cond.initialized "java/util/NoSuchElementException") ∈ lw_all := lw_g (lw_at lw_m1 28 rfl) rfl
theorem q655 : (Jvm.Cond.selects "java/util/NoSuchElementException" ({ cls := "java/lang/Throwable", name := "fillInStackTrace", desc := "()Ljava/lang/Throwable;" } : Jvm.MethodName) ({ cls := "java/lang/Throwable", name := "fillInStackTrace", desc := "()Ljava/lang/Throwable;" } : Jvm.MethodName)) ∈ lw_all := lw_g (lw_at lw_m3 111 rfl) rfl
theorem q879 : (Jvm.Cond.selects "java/util/NoSuchElementException" ({ cls := "java/lang/Object", name := "getClass", desc := "()Ljava/lang/Class;" } : Jvm.MethodName) ({ cls := "java/lang/Object", name := "getClass", desc := "()Ljava/lang/Class;" } : Jvm.MethodName)) ∈ lw_all := lw_g (lw_at lw_m4 95 rfl) rfl
theorem q1146 : (Jvm.Cond.instantiable "java/util/NoSuchElementException" (6 : Nat)) ∈ lw_all := lw_g (lw_at lw_m5 122 rfl) rfl
theorem q1147 : (Jvm.Cond.castable "java/util/NoSuchElementException" "java/util/NoSuchElementException") ∈ lw_tbl := lw_at lw_m5 123 rfl
theorem q1148 : (Jvm.Cond.selects "java/util/NoSuchElementException" ({ cls := "java/lang/Throwable", name := "fillInStackTrace", desc := "(I)Ljava/lang/Throwable;" } : Jvm.MethodName) ({ cls := "java/lang/Throwable", name := "fillInStackTrace", desc := "(I)Ljava/lang/Throwable;" } : Jvm.MethodName)) ∈ lw_all := lw_g (lw_at lw_m5 124 rfl) rfl
theorem q1149 : (Jvm.Cond.lays "java/util/NoSuchElementException" "java/lang/Throwable" "cause" "Ljava/lang/Throwable;") ∈ lw_all := lw_g (lw_at lw_m5 125 rfl) rfl
theorem q1150 : (Jvm.Cond.lays "java/util/NoSuchElementException" "java/lang/Throwable" "stackTrace" "[Ljava/lang/StackTraceElement;") ∈ lw_all := lw_g (lw_at lw_m5 126 rfl) rfl
theorem q1151 : (Jvm.Cond.lays "java/util/NoSuchElementException" "java/lang/Throwable" "suppressedExceptions" "Ljava/util/List;") ∈ lw_all := lw_g (lw_at lw_m5 127 rfl) rfl
theorem q1152 : (Jvm.Cond.lays "java/util/NoSuchElementException" "java/lang/Throwable" "detailMessage" "Ljava/lang/String;") ∈ lw_all := lw_g (lw_at lw_m5 128 rfl) rfl
theorem q1153 : (Jvm.Cond.lays "java/util/NoSuchElementException" "java/lang/Throwable" "backtrace" "Ljava/lang/Object;") ∈ lw_all := lw_g (lw_at lw_m5 129 rfl) rfl
theorem q1155 : (Jvm.Cond.instanceMethod ({ cls := "java/util/NoSuchElementException", name := "<init>", desc := "()V" } : Jvm.MethodName)) ∈ lw_all := lw_g (lw_at lw_m5 131 rfl) rfl
theorem q1156 : (Jvm.Cond.code ({ cls := "java/util/NoSuchElementException", name := "<init>", desc := "()V" } : Jvm.MethodName) prog_39_method_1_code (1 : Nat) (Option.none : Option Jvm.ClassFile.FieldType)) ∈ lw_all := lw_g (lw_at lw_m5 132 rfl) rfl
theorem q1157 : (Jvm.Cond.methodLink "java/util/NoSuchElementException" (1 : Nat) ({ cls := "java/lang/RuntimeException", name := "<init>", desc := "()V" } : Jvm.MethodName)) ∈ lw_all := lw_g (lw_at lw_m5 133 rfl) rfl
theorem q1158 : (Jvm.Cond.lays "java/util/NoSuchElementException" "java/lang/Throwable" "depth" "I") ∈ lw_all := lw_g (lw_at lw_m5 134 rfl) rfl
theorem q1159 : (Jvm.Cond.superclass "java/util/NoSuchElementException" "java/lang/RuntimeException") ∈ lw_all := lw_g (lw_at lw_m5 135 rfl) rfl
theorem q1676 : (Jvm.Cond.castable "java/util/NoSuchElementException" "java/lang/Object") ∈ lw_tbl := lw_at lw_m7 172 rfl
theorem in_J15 : ∀ w ∈ wsJ150, w ∈ lw_all := lw_in wsJ150 [1149, 1150, 1151, 1152, 1153, 1158] (by decide +kernel) (by decide +kernel)

/-! java/lang/IndexOutOfBoundsException -/
def RJ16 : String := "java/lang/IndexOutOfBoundsException"
def TJ16 : u_T := fun k => match k with
  | 0 => ("java/lang/Throwable", "cause", "Ljava/lang/Throwable;", false)
  | 1 => ("java/lang/Throwable", "stackTrace", "[Ljava/lang/StackTraceElement;", false)
  | 2 => ("java/lang/Throwable", "suppressedExceptions", "Ljava/util/List;", false)
  | 3 => ("java/lang/Throwable", "detailMessage", "Ljava/lang/String;", false)
  | 4 => ("java/lang/Throwable", "backtrace", "Ljava/lang/Object;", false)
  | _ => ("java/lang/Throwable", "depth", "I", false)
def tyJ16 : Nat → FieldType := fun k => match k with
  | 0 => .object "java/lang/Throwable"
  | 1 => .array (.object "java/lang/StackTraceElement")
  | 2 => .object "java/util/List"
  | 3 => .object "java/lang/String"
  | 4 => .object "java/lang/Object"
  | _ => .int
abbrev wsJ160 : List Cond := u_ws RJ16 TJ16 6
theorem nmJ16 : ∀ a, a < 6 → ∀ b, b < 6 → a ≠ b → (TJ16 a).2.1 ≠ (TJ16 b).2.1 := by decide +kernel
theorem tyJ16_ok : ∀ k, k < 6 → parseFieldDescriptor (TJ16 k).2.2.1 = some (tyJ16 k) := by decide +kernel
abbrev cJ16_init : ByteArray := prog_21_method_2_code
def yJ16_init : MethodName := ⟨RJ16, "<init>", "(Ljava/lang/String;)V"⟩
abbrev cJ16_init_2 : ByteArray := prog_21_method_1_code
def yJ16_init_2 : MethodName := ⟨RJ16, "<init>", "()V"⟩
theorem q93 : (Jvm.Cond.initialized "java/lang/IndexOutOfBoundsException") ∈ lw_all := lw_g (lw_at lw_m1 29 rfl) rfl
theorem q653 : (Jvm.Cond.selects "java/lang/IndexOutOfBoundsException" ({ cls := "java/lang/Throwable", name := "fillInStackTrace", desc := "()Ljava/lang/Throwable;" } : Jvm.MethodName) ({ cls := "java/lang/Throwable", name := "fillInStackTrace", desc := "()Ljava/lang/Throwable;" } : Jvm.MethodName)) ∈ lw_all := lw_g (lw_at lw_m3 109 rfl) rfl
theorem q874 : (Jvm.Cond.selects "java/lang/IndexOutOfBoundsException" ({ cls := "java/lang/Object", name := "getClass", desc := "()Ljava/lang/Class;" } : Jvm.MethodName) ({ cls := "java/lang/Object", name := "getClass", desc := "()Ljava/lang/Class;" } : Jvm.MethodName)) ∈ lw_all := lw_g (lw_at lw_m4 90 rfl) rfl
theorem q1171 : (Jvm.Cond.instanceMethod ({ cls := "java/lang/IndexOutOfBoundsException", name := "<init>", desc := "(Ljava/lang/String;)V" } : Jvm.MethodName)) ∈ lw_all := lw_g (lw_at lw_m5 147 rfl) rfl
theorem q1172 : (Jvm.Cond.code ({ cls := "java/lang/IndexOutOfBoundsException", name := "<init>", desc := "(Ljava/lang/String;)V" } : Jvm.MethodName) prog_21_method_2_code (2 : Nat) (Option.none : Option Jvm.ClassFile.FieldType)) ∈ lw_all := lw_g (lw_at lw_m5 148 rfl) rfl
theorem q1173 : (Jvm.Cond.methodLink "java/lang/IndexOutOfBoundsException" (7 : Nat) ({ cls := "java/lang/RuntimeException", name := "<init>", desc := "(Ljava/lang/String;)V" } : Jvm.MethodName)) ∈ lw_all := lw_g (lw_at lw_m5 149 rfl) rfl
theorem q1182 : (Jvm.Cond.declares ({ cls := "java/lang/IndexOutOfBoundsException", name := "<init>", desc := "()V" } : Jvm.MethodName)) ∈ lw_tbl := lw_at lw_m5 158 rfl
theorem q1183 : (Jvm.Cond.declares ({ cls := "java/lang/IndexOutOfBoundsException", name := "<init>", desc := "(Ljava/lang/String;)V" } : Jvm.MethodName)) ∈ lw_tbl := lw_at lw_m5 159 rfl
theorem q1190 : (Jvm.Cond.instantiable "java/lang/IndexOutOfBoundsException" (6 : Nat)) ∈ lw_all := lw_g (lw_at lw_m5 166 rfl) rfl
theorem q1191 : (Jvm.Cond.castable "java/lang/IndexOutOfBoundsException" "java/lang/IndexOutOfBoundsException") ∈ lw_tbl := lw_at lw_m5 167 rfl
theorem q1192 : (Jvm.Cond.selects "java/lang/IndexOutOfBoundsException" ({ cls := "java/lang/Throwable", name := "fillInStackTrace", desc := "(I)Ljava/lang/Throwable;" } : Jvm.MethodName) ({ cls := "java/lang/Throwable", name := "fillInStackTrace", desc := "(I)Ljava/lang/Throwable;" } : Jvm.MethodName)) ∈ lw_all := lw_g (lw_at lw_m5 168 rfl) rfl
theorem q1193 : (Jvm.Cond.lays "java/lang/IndexOutOfBoundsException" "java/lang/Throwable" "cause" "Ljava/lang/Throwable;") ∈ lw_all := lw_g (lw_at lw_m5 169 rfl) rfl
theorem q1194 : (Jvm.Cond.lays "java/lang/IndexOutOfBoundsException" "java/lang/Throwable" "stackTrace" "[Ljava/lang/StackTraceElement;") ∈ lw_all := lw_g (lw_at lw_m5 170 rfl) rfl
theorem q1195 : (Jvm.Cond.lays "java/lang/IndexOutOfBoundsException" "java/lang/Throwable" "suppressedExceptions" "Ljava/util/List;") ∈ lw_all := lw_g (lw_at lw_m5 171 rfl) rfl
theorem q1196 : (Jvm.Cond.lays "java/lang/IndexOutOfBoundsException" "java/lang/Throwable" "detailMessage" "Ljava/lang/String;") ∈ lw_all := lw_g (lw_at lw_m5 172 rfl) rfl
theorem q1197 : (Jvm.Cond.lays "java/lang/IndexOutOfBoundsException" "java/lang/Throwable" "backtrace" "Ljava/lang/Object;") ∈ lw_all := lw_g (lw_at lw_m5 173 rfl) rfl
theorem q1199 : (Jvm.Cond.instanceMethod ({ cls := "java/lang/IndexOutOfBoundsException", name := "<init>", desc := "()V" } : Jvm.MethodName)) ∈ lw_all := lw_g (lw_at lw_m5 175 rfl) rfl
theorem q1200 : (Jvm.Cond.code ({ cls := "java/lang/IndexOutOfBoundsException", name := "<init>", desc := "()V" } : Jvm.MethodName) prog_21_method_1_code (1 : Nat) (Option.none : Option Jvm.ClassFile.FieldType)) ∈ lw_all := lw_g (lw_at lw_m5 176 rfl) rfl
theorem q1201 : (Jvm.Cond.methodLink "java/lang/IndexOutOfBoundsException" (1 : Nat) ({ cls := "java/lang/RuntimeException", name := "<init>", desc := "()V" } : Jvm.MethodName)) ∈ lw_all := lw_g (lw_at lw_m5 177 rfl) rfl
theorem q1202 : (Jvm.Cond.lays "java/lang/IndexOutOfBoundsException" "java/lang/Throwable" "depth" "I") ∈ lw_all := lw_g (lw_at lw_m5 178 rfl) rfl
theorem q1203 : (Jvm.Cond.superclass "java/lang/IndexOutOfBoundsException" "java/lang/RuntimeException") ∈ lw_all := lw_g (lw_at lw_m5 179 rfl) rfl
theorem q1678 : (Jvm.Cond.castable "java/lang/IndexOutOfBoundsException" "java/lang/Object") ∈ lw_tbl := lw_at lw_m7 174 rfl
theorem in_J16 : ∀ w ∈ wsJ160, w ∈ lw_all := lw_in wsJ160 [1193, 1194, 1195, 1196, 1197, 1202] (by decide +kernel) (by decide +kernel)

/-! java/lang/ArrayIndexOutOfBoundsException -/
def RJ17 : String := "java/lang/ArrayIndexOutOfBoundsException"
def TJ17 : u_T := fun k => match k with
  | 0 => ("java/lang/Throwable", "backtrace", "Ljava/lang/Object;", false)
  | 1 => ("java/lang/Throwable", "detailMessage", "Ljava/lang/String;", false)
  | 2 => ("java/lang/Throwable", "cause", "Ljava/lang/Throwable;", false)
  | 3 => ("java/lang/Throwable", "stackTrace", "[Ljava/lang/StackTraceElement;", false)
  | 4 => ("java/lang/Throwable", "depth", "I", false)
  | _ => ("java/lang/Throwable", "suppressedExceptions", "Ljava/util/List;", false)
def tyJ17 : Nat → FieldType := fun k => match k with
  | 0 => .object "java/lang/Object"
  | 1 => .object "java/lang/String"
  | 2 => .object "java/lang/Throwable"
  | 3 => .array (.object "java/lang/StackTraceElement")
  | 4 => .int
  | _ => .object "java/util/List"
abbrev wsJ170 : List Cond := u_ws RJ17 TJ17 6
theorem nmJ17 : ∀ a, a < 6 → ∀ b, b < 6 → a ≠ b → (TJ17 a).2.1 ≠ (TJ17 b).2.1 := by decide +kernel
theorem tyJ17_ok : ∀ k, k < 6 → parseFieldDescriptor (TJ17 k).2.2.1 = some (tyJ17 k) := by decide +kernel
abbrev cJ17_init : ByteArray := prog_15_method_2_code
def yJ17_init : MethodName := ⟨RJ17, "<init>", "(Ljava/lang/String;)V"⟩
theorem q94 : (Jvm.Cond.initialized "java/lang/ArrayIndexOutOfBoundsException") ∈ lw_all := lw_g (lw_at lw_m1 30 rfl) rfl
theorem q651 : (Jvm.Cond.selects "java/lang/ArrayIndexOutOfBoundsException" ({ cls := "java/lang/Throwable", name := "fillInStackTrace", desc := "()Ljava/lang/Throwable;" } : Jvm.MethodName) ({ cls := "java/lang/Throwable", name := "fillInStackTrace", desc := "()Ljava/lang/Throwable;" } : Jvm.MethodName)) ∈ lw_all := lw_g (lw_at lw_m3 107 rfl) rfl
theorem q871 : (Jvm.Cond.selects "java/lang/ArrayIndexOutOfBoundsException" ({ cls := "java/lang/Object", name := "getClass", desc := "()Ljava/lang/Class;" } : Jvm.MethodName) ({ cls := "java/lang/Object", name := "getClass", desc := "()Ljava/lang/Class;" } : Jvm.MethodName)) ∈ lw_all := lw_g (lw_at lw_m4 87 rfl) rfl
theorem q1167 : (Jvm.Cond.instantiable "java/lang/ArrayIndexOutOfBoundsException" (6 : Nat)) ∈ lw_all := lw_g (lw_at lw_m5 143 rfl) rfl
theorem q1168 : (Jvm.Cond.instanceMethod ({ cls := "java/lang/ArrayIndexOutOfBoundsException", name := "<init>", desc := "(Ljava/lang/String;)V" } : Jvm.MethodName)) ∈ lw_all := lw_g (lw_at lw_m5 144 rfl) rfl
theorem q1169 : (Jvm.Cond.code ({ cls := "java/lang/ArrayIndexOutOfBoundsException", name := "<init>", desc := "(Ljava/lang/String;)V" } : Jvm.MethodName) prog_15_method_2_code (2 : Nat) (Option.none : Option Jvm.ClassFile.FieldType)) ∈ lw_all := lw_g (lw_at lw_m5 145 rfl) rfl
theorem q1170 : (Jvm.Cond.methodLink "java/lang/ArrayIndexOutOfBoundsException" (7 : Nat) ({ cls := "java/lang/IndexOutOfBoundsException", name := "<init>", desc := "(Ljava/lang/String;)V" } : Jvm.MethodName)) ∈ lw_all := lw_g (lw_at lw_m5 146 rfl) rfl
theorem q1174 : (Jvm.Cond.lays "java/lang/ArrayIndexOutOfBoundsException" "java/lang/Throwable" "backtrace" "Ljava/lang/Object;") ∈ lw_all := lw_g (lw_at lw_m5 150 rfl) rfl
theorem q1175 : (Jvm.Cond.lays "java/lang/ArrayIndexOutOfBoundsException" "java/lang/Throwable" "detailMessage" "Ljava/lang/String;") ∈ lw_all := lw_g (lw_at lw_m5 151 rfl) rfl
theorem q1176 : (Jvm.Cond.lays "java/lang/ArrayIndexOutOfBoundsException" "java/lang/Throwable" "cause" "Ljava/lang/Throwable;") ∈ lw_all := lw_g (lw_at lw_m5 152 rfl) rfl
theorem q1177 : (Jvm.Cond.lays "java/lang/ArrayIndexOutOfBoundsException" "java/lang/Throwable" "stackTrace" "[Ljava/lang/StackTraceElement;") ∈ lw_all := lw_g (lw_at lw_m5 153 rfl) rfl
theorem q1178 : (Jvm.Cond.lays "java/lang/ArrayIndexOutOfBoundsException" "java/lang/Throwable" "depth" "I") ∈ lw_all := lw_g (lw_at lw_m5 154 rfl) rfl
theorem q1179 : (Jvm.Cond.lays "java/lang/ArrayIndexOutOfBoundsException" "java/lang/Throwable" "suppressedExceptions" "Ljava/util/List;") ∈ lw_all := lw_g (lw_at lw_m5 155 rfl) rfl
theorem q1180 : (Jvm.Cond.superclass "java/lang/ArrayIndexOutOfBoundsException" "java/lang/IndexOutOfBoundsException") ∈ lw_all := lw_g (lw_at lw_m5 156 rfl) rfl
theorem q1181 : (Jvm.Cond.castable "java/lang/ArrayIndexOutOfBoundsException" "java/lang/ArrayIndexOutOfBoundsException") ∈ lw_tbl := lw_at lw_m5 157 rfl
theorem q1184 : (Jvm.Cond.selects "java/lang/ArrayIndexOutOfBoundsException" ({ cls := "java/lang/Throwable", name := "fillInStackTrace", desc := "(I)Ljava/lang/Throwable;" } : Jvm.MethodName) ({ cls := "java/lang/Throwable", name := "fillInStackTrace", desc := "(I)Ljava/lang/Throwable;" } : Jvm.MethodName)) ∈ lw_all := lw_g (lw_at lw_m5 160 rfl) rfl
theorem q1658 : (Jvm.Cond.castable "java/lang/ArrayIndexOutOfBoundsException" "java/lang/IndexOutOfBoundsException") ∈ lw_tbl := lw_at lw_m7 154 rfl
theorem q1677 : (Jvm.Cond.castable "java/lang/ArrayIndexOutOfBoundsException" "java/lang/Object") ∈ lw_tbl := lw_at lw_m7 173 rfl
theorem in_J17 : ∀ w ∈ wsJ170, w ∈ lw_all := lw_in wsJ170 [1174, 1175, 1176, 1177, 1178, 1179] (by decide +kernel) (by decide +kernel)

/-! java/lang/String -/
def RJ18 : String := "java/lang/String"
def TJ18 : u_T := fun k => match k with
  | 0 => ("java/lang/String", "value", "[B", true)
  | 1 => ("java/lang/String", "coder", "B", true)
  | 2 => ("java/lang/String", "hash", "I", false)
  | _ => ("java/lang/String", "hashIsZero", "Z", false)
def tyJ18 : Nat → FieldType := fun k => match k with
  | 0 => .array .byte
  | 1 => .byte
  | 2 => .int
  | _ => .boolean
abbrev wsJ180 : List Cond := u_ws RJ18 TJ18 4
theorem nmJ18 : ∀ a, a < 4 → ∀ b, b < 4 → a ≠ b → (TJ18 a).2.1 ≠ (TJ18 b).2.1 := by decide +kernel
theorem tyJ18_ok : ∀ k, k < 4 → parseFieldDescriptor (TJ18 k).2.2.1 = some (tyJ18 k) := by decide +kernel
abbrev cJ18_checkBoundsBeginEnd : ByteArray := prog_26_method_158_code
def yJ18_checkBoundsBeginEnd : MethodName := ⟨RJ18, "checkBoundsBeginEnd", "(III)V"⟩
abbrev cJ18_length : ByteArray := prog_26_method_54_code
def yJ18_length : MethodName := ⟨RJ18, "length", "()I"⟩
abbrev cJ18_coder : ByteArray := prog_26_method_152_code
def yJ18_coder : MethodName := ⟨RJ18, "coder", "()B"⟩
abbrev cJ18_checkBoundsOffCount : ByteArray := prog_26_method_157_code
def yJ18_checkBoundsOffCount : MethodName := ⟨RJ18, "checkBoundsOffCount", "(III)I"⟩
abbrev cJ18_getBytes : ByteArray := prog_26_method_147_code
def yJ18_getBytes : MethodName := ⟨RJ18, "getBytes", "([BIB)V"⟩
abbrev cJ18_init : ByteArray := prog_26_method_53_code
def yJ18_init : MethodName := ⟨RJ18, "<init>", "(Ljava/lang/StringBuilder;)V"⟩
abbrev cJ18_init_2 : ByteArray := prog_26_method_150_code
def yJ18_init_2 : MethodName := ⟨RJ18, "<init>", "(Ljava/lang/AbstractStringBuilder;Ljava/lang/Void;)V"⟩
abbrev cJ18_charAt : ByteArray := prog_26_method_56_code
def yJ18_charAt : MethodName := ⟨RJ18, "charAt", "(I)C"⟩
abbrev cJ18_isLatin1 : ByteArray := prog_26_method_154_code
def yJ18_isLatin1 : MethodName := ⟨RJ18, "isLatin1", "()Z"⟩
abbrev cJ18_checkIndex : ByteArray := prog_26_method_155_code
def yJ18_checkIndex : MethodName := ⟨RJ18, "checkIndex", "(II)V"⟩
theorem q95 : (Jvm.Cond.initialized "java/lang/String") ∈ lw_all := lw_g (lw_at lw_m1 31 rfl) rfl
theorem q415 : (Jvm.Cond.laysStatic "java/lang/String" "COMPACT_STRINGS" "Z") ∈ lw_tbl := lw_at lw_m2 111 rfl
theorem q425 : (Jvm.Cond.fieldLink "java/lang/String" (1048 : Nat) "java/lang/AbstractStringBuilder" "maybeLatin1" "Z") ∈ lw_all := lw_g (lw_at lw_m2 121 rfl) rfl
theorem q498 : (Jvm.Cond.static ({ cls := "java/lang/String", name := "checkBoundsBeginEnd", desc := "(III)V" } : Jvm.MethodName)) ∈ lw_all := lw_g (lw_at lw_m2 194 rfl) rfl
theorem q499 : (Jvm.Cond.code ({ cls := "java/lang/String", name := "checkBoundsBeginEnd", desc := "(III)V" } : Jvm.MethodName) prog_26_method_158_code (3 : Nat) (Option.none : Option Jvm.ClassFile.FieldType)) ∈ lw_all := lw_g (lw_at lw_m2 195 rfl) rfl
theorem q500 : (Jvm.Cond.fieldLink "java/lang/String" (1053 : Nat) "jdk/internal/util/Preconditions" "SIOOBE_FORMATTER" "Ljava/util/function/BiFunction;") ∈ lw_all := lw_g (lw_at lw_m2 196 rfl) rfl
theorem q502 : (Jvm.Cond.methodLink "java/lang/String" (1062 : Nat) ({ cls := "jdk/internal/util/Preconditions", name := "checkFromToIndex", desc := "(IIILjava/util/function/BiFunction;)I" } : Jvm.MethodName)) ∈ lw_all := lw_g (lw_at lw_m2 198 rfl) rfl
theorem q515 : (Jvm.Cond.instanceMethod ({ cls := "java/lang/String", name := "length", desc := "()I" } : Jvm.MethodName)) ∈ lw_all := lw_g (lw_at lw_m2 211 rfl) rfl
theorem q516 : (Jvm.Cond.selects "java/lang/String" ({ cls := "java/lang/String", name := "length", desc := "()I" } : Jvm.MethodName) ({ cls := "java/lang/String", name := "length", desc := "()I" } : Jvm.MethodName)) ∈ lw_all := lw_g (lw_at lw_m2 212 rfl) rfl
theorem q517 : (Jvm.Cond.code ({ cls := "java/lang/String", name := "length", desc := "()I" } : Jvm.MethodName) prog_26_method_54_code (1 : Nat) (Option.some Jvm.ClassFile.FieldType.int)) ∈ lw_all := lw_g (lw_at lw_m2 213 rfl) rfl
theorem q518 : (Jvm.Cond.methodLink "java/lang/String" (335 : Nat) ({ cls := "java/lang/String", name := "coder", desc := "()B" } : Jvm.MethodName)) ∈ lw_all := lw_g (lw_at lw_m2 214 rfl) rfl
theorem q519 : (Jvm.Cond.instanceMethod ({ cls := "java/lang/String", name := "coder", desc := "()B" } : Jvm.MethodName)) ∈ lw_all := lw_g (lw_at lw_m2 215 rfl) rfl
theorem q520 : (Jvm.Cond.selects "java/lang/String" ({ cls := "java/lang/String", name := "coder", desc := "()B" } : Jvm.MethodName) ({ cls := "java/lang/String", name := "coder", desc := "()B" } : Jvm.MethodName)) ∈ lw_all := lw_g (lw_at lw_m2 216 rfl) rfl
theorem q521 : (Jvm.Cond.code ({ cls := "java/lang/String", name := "coder", desc := "()B" } : Jvm.MethodName) prog_26_method_152_code (1 : Nat) (Option.some Jvm.ClassFile.FieldType.byte)) ∈ lw_all := lw_g (lw_at lw_m2 217 rfl) rfl
theorem q522 : (Jvm.Cond.fieldLink "java/lang/String" (38 : Nat) "java/lang/String" "COMPACT_STRINGS" "Z") ∈ lw_all := lw_g (lw_at lw_m2 218 rfl) rfl
theorem q546 : (Jvm.Cond.static ({ cls := "java/lang/String", name := "checkBoundsOffCount", desc := "(III)I" } : Jvm.MethodName)) ∈ lw_all := lw_g (lw_at lw_m3 2 rfl) rfl
theorem q547 : (Jvm.Cond.code ({ cls := "java/lang/String", name := "checkBoundsOffCount", desc := "(III)I" } : Jvm.MethodName) prog_26_method_157_code (3 : Nat) (Option.some Jvm.ClassFile.FieldType.int)) ∈ lw_all := lw_g (lw_at lw_m3 3 rfl) rfl
theorem q548 : (Jvm.Cond.methodLink "java/lang/String" (1065 : Nat) ({ cls := "jdk/internal/util/Preconditions", name := "checkFromIndexSize", desc := "(IIILjava/util/function/BiFunction;)I" } : Jvm.MethodName)) ∈ lw_all := lw_g (lw_at lw_m3 4 rfl) rfl
theorem q552 : (Jvm.Cond.instanceMethod ({ cls := "java/lang/String", name := "getBytes", desc := "([BIB)V" } : Jvm.MethodName)) ∈ lw_all := lw_g (lw_at lw_m3 8 rfl) rfl
theorem q553 : (Jvm.Cond.selects "java/lang/String" ({ cls := "java/lang/String", name := "getBytes", desc := "([BIB)V" } : Jvm.MethodName) ({ cls := "java/lang/String", name := "getBytes", desc := "([BIB)V" } : Jvm.MethodName)) ∈ lw_all := lw_g (lw_at lw_m3 9 rfl) rfl
theorem q554 : (Jvm.Cond.code ({ cls := "java/lang/String", name := "getBytes", desc := "([BIB)V" } : Jvm.MethodName) prog_26_method_147_code (4 : Nat) (Option.none : Option Jvm.ClassFile.FieldType)) ∈ lw_all := lw_g (lw_at lw_m3 10 rfl) rfl
theorem q555 : (Jvm.Cond.methodLink "java/lang/String" (212 : Nat) ({ cls := "java/lang/System", name := "arraycopy", desc := "(Ljava/lang/Object;ILjava/lang/Object;II)V" } : Jvm.MethodName)) ∈ lw_all := lw_g (lw_at lw_m3 11 rfl) rfl
theorem q556 : (Jvm.Cond.methodLink "java/lang/String" (106 : Nat) ({ cls := "java/lang/StringLatin1", name := "inflate", desc := "([BI[BII)V" } : Jvm.MethodName)) ∈ lw_all := lw_g (lw_at lw_m3 12 rfl) rfl
theorem q587 : (Jvm.Cond.instantiable "java/lang/String" (4 : Nat)) ∈ lw_all := lw_g (lw_at lw_m3 43 rfl) rfl
theorem q589 : (Jvm.Cond.instanceMethod ({ cls := "java/lang/String", name := "<init>", desc := "(Ljava/lang/StringBuilder;)V" } : Jvm.MethodName)) ∈ lw_all := lw_g (lw_at lw_m3 45 rfl) rfl
theorem q590 : (Jvm.Cond.code ({ cls := "java/lang/String", name := "<init>", desc := "(Ljava/lang/StringBuilder;)V" } : Jvm.MethodName) prog_26_method_53_code (2 : Nat) (Option.none : Option Jvm.ClassFile.FieldType)) ∈ lw_all := lw_g (lw_at lw_m3 46 rfl) rfl
theorem q591 : (Jvm.Cond.methodLink "java/lang/String" (489 : Nat) ({ cls := "java/lang/String", name := "<init>", desc := "(Ljava/lang/AbstractStringBuilder;Ljava/lang/Void;)V" } : Jvm.MethodName)) ∈ lw_all := lw_g (lw_at lw_m3 47 rfl) rfl
theorem q592 : (Jvm.Cond.instanceMethod ({ cls := "java/lang/String", name := "<init>", desc := "(Ljava/lang/AbstractStringBuilder;Ljava/lang/Void;)V" } : Jvm.MethodName)) ∈ lw_all := lw_g (lw_at lw_m3 48 rfl) rfl
theorem q593 : (Jvm.Cond.code ({ cls := "java/lang/String", name := "<init>", desc := "(Ljava/lang/AbstractStringBuilder;Ljava/lang/Void;)V" } : Jvm.MethodName) prog_26_method_150_code (5 : Nat) (Option.none : Option Jvm.ClassFile.FieldType)) ∈ lw_all := lw_g (lw_at lw_m3 49 rfl) rfl
theorem q594 : (Jvm.Cond.methodLink "java/lang/String" (1 : Nat) ({ cls := "java/lang/Object", name := "<init>", desc := "()V" } : Jvm.MethodName)) ∈ lw_all := lw_g (lw_at lw_m3 50 rfl) rfl
theorem q595 : (Jvm.Cond.methodLink "java/lang/String" (552 : Nat) ({ cls := "java/lang/AbstractStringBuilder", name := "getValue", desc := "()[B" } : Jvm.MethodName)) ∈ lw_all := lw_g (lw_at lw_m3 51 rfl) rfl
theorem q600 : (Jvm.Cond.methodLink "java/lang/String" (549 : Nat) ({ cls := "java/lang/AbstractStringBuilder", name := "length", desc := "()I" } : Jvm.MethodName)) ∈ lw_all := lw_g (lw_at lw_m3 56 rfl) rfl
theorem q608 : (Jvm.Cond.methodLink "java/lang/String" (1047 : Nat) ({ cls := "java/lang/AbstractStringBuilder", name := "isLatin1", desc := "()Z" } : Jvm.MethodName)) ∈ lw_all := lw_g (lw_at lw_m3 64 rfl) rfl
theorem q609 : (Jvm.Cond.methodLink "java/lang/String" (54 : Nat) ({ cls := "java/util/Arrays", name := "copyOfRange", desc := "([BII)[B" } : Jvm.MethodName)) ∈ lw_all := lw_g (lw_at lw_m3 65 rfl) rfl
theorem q693 : (Jvm.Cond.methodLink "java/lang/String" (1051 : Nat) ({ cls := "java/lang/StringUTF16", name := "compress", desc := "([BII)[B" } : Jvm.MethodName)) ∈ lw_all := lw_g (lw_at lw_m3 149 rfl) rfl
theorem q703 : (Jvm.Cond.methodLink "java/lang/String" (47 : Nat) ({ cls := "java/lang/StringUTF16", name := "coderFromArrayLen", desc := "([BI)B" } : Jvm.MethodName)) ∈ lw_all := lw_g (lw_at lw_m3 159 rfl) rfl
theorem q706 : (Jvm.Cond.fieldLink "java/lang/String" (9 : Nat) "java/lang/String" "value" "[B") ∈ lw_all := lw_g (lw_at lw_m3 162 rfl) rfl
theorem q707 : (Jvm.Cond.fieldLink "java/lang/String" (15 : Nat) "java/lang/String" "coder" "B") ∈ lw_all := lw_g (lw_at lw_m3 163 rfl) rfl
theorem q708 : (Jvm.Cond.laysFinal "java/lang/String" "java/lang/String" "value" "[B") ∈ lw_all := lw_g (lw_at lw_m3 164 rfl) rfl
theorem q709 : (Jvm.Cond.soleField "java/lang/String" "value") ∈ lw_all := lw_g (lw_at lw_m3 165 rfl) rfl
theorem q710 : (Jvm.Cond.laysFinal "java/lang/String" "java/lang/String" "coder" "B") ∈ lw_all := lw_g (lw_at lw_m3 166 rfl) rfl
theorem q711 : (Jvm.Cond.soleField "java/lang/String" "coder") ∈ lw_all := lw_g (lw_at lw_m3 167 rfl) rfl
theorem q712 : (Jvm.Cond.lays "java/lang/String" "java/lang/String" "hash" "I") ∈ lw_all := lw_g (lw_at lw_m3 168 rfl) rfl
theorem q713 : (Jvm.Cond.soleField "java/lang/String" "hash") ∈ lw_all := lw_g (lw_at lw_m3 169 rfl) rfl
theorem q714 : (Jvm.Cond.lays "java/lang/String" "java/lang/String" "hashIsZero" "Z") ∈ lw_all := lw_g (lw_at lw_m3 170 rfl) rfl
theorem q715 : (Jvm.Cond.soleField "java/lang/String" "hashIsZero") ∈ lw_all := lw_g (lw_at lw_m3 171 rfl) rfl
theorem q716 : (Jvm.Cond.superclass "java/lang/String" "java/lang/Object") ∈ lw_all := lw_g (lw_at lw_m3 172 rfl) rfl
theorem q730 : (Jvm.Cond.instanceMethod ({ cls := "java/lang/String", name := "charAt", desc := "(I)C" } : Jvm.MethodName)) ∈ lw_all := lw_g (lw_at lw_m3 186 rfl) rfl
theorem q731 : (Jvm.Cond.selects "java/lang/String" ({ cls := "java/lang/String", name := "charAt", desc := "(I)C" } : Jvm.MethodName) ({ cls := "java/lang/String", name := "charAt", desc := "(I)C" } : Jvm.MethodName)) ∈ lw_all := lw_g (lw_at lw_m3 187 rfl) rfl
theorem q732 : (Jvm.Cond.code ({ cls := "java/lang/String", name := "charAt", desc := "(I)C" } : Jvm.MethodName) prog_26_method_56_code (2 : Nat) (Option.some Jvm.ClassFile.FieldType.char)) ∈ lw_all := lw_g (lw_at lw_m3 188 rfl) rfl
theorem q733 : (Jvm.Cond.methodLink "java/lang/String" (492 : Nat) ({ cls := "java/lang/String", name := "isLatin1", desc := "()Z" } : Jvm.MethodName)) ∈ lw_all := lw_g (lw_at lw_m3 189 rfl) rfl
theorem q734 : (Jvm.Cond.instanceMethod ({ cls := "java/lang/String", name := "isLatin1", desc := "()Z" } : Jvm.MethodName)) ∈ lw_all := lw_g (lw_at lw_m3 190 rfl) rfl
theorem q735 : (Jvm.Cond.selects "java/lang/String" ({ cls := "java/lang/String", name := "isLatin1", desc := "()Z" } : Jvm.MethodName) ({ cls := "java/lang/String", name := "isLatin1", desc := "()Z" } : Jvm.MethodName)) ∈ lw_all := lw_g (lw_at lw_m3 191 rfl) rfl
theorem q736 : (Jvm.Cond.code ({ cls := "java/lang/String", name := "isLatin1", desc := "()Z" } : Jvm.MethodName) prog_26_method_154_code (1 : Nat) (Option.some Jvm.ClassFile.FieldType.boolean)) ∈ lw_all := lw_g (lw_at lw_m3 192 rfl) rfl
theorem q737 : (Jvm.Cond.methodLink "java/lang/String" (495 : Nat) ({ cls := "java/lang/StringLatin1", name := "charAt", desc := "([BI)C" } : Jvm.MethodName)) ∈ lw_all := lw_g (lw_at lw_m3 193 rfl) rfl
theorem q741 : (Jvm.Cond.static ({ cls := "java/lang/String", name := "checkIndex", desc := "(II)V" } : Jvm.MethodName)) ∈ lw_all := lw_g (lw_at lw_m3 197 rfl) rfl
theorem q742 : (Jvm.Cond.code ({ cls := "java/lang/String", name := "checkIndex", desc := "(II)V" } : Jvm.MethodName) prog_26_method_155_code (2 : Nat) (Option.none : Option Jvm.ClassFile.FieldType)) ∈ lw_all := lw_g (lw_at lw_m3 198 rfl) rfl
theorem q743 : (Jvm.Cond.methodLink "java/lang/String" (1059 : Nat) ({ cls := "jdk/internal/util/Preconditions", name := "checkIndex", desc := "(IILjava/util/function/BiFunction;)I" } : Jvm.MethodName)) ∈ lw_all := lw_g (lw_at lw_m3 199 rfl) rfl
theorem q746 : (Jvm.Cond.methodLink "java/lang/String" (498 : Nat) ({ cls := "java/lang/StringUTF16", name := "charAt", desc := "([BI)C" } : Jvm.MethodName)) ∈ lw_all := lw_g (lw_at lw_m3 202 rfl) rfl
theorem q875 : (Jvm.Cond.selects "java/lang/String" ({ cls := "java/lang/Object", name := "getClass", desc := "()Ljava/lang/Class;" } : Jvm.MethodName) ({ cls := "java/lang/Object", name := "getClass", desc := "()Ljava/lang/Class;" } : Jvm.MethodName)) ∈ lw_all := lw_g (lw_at lw_m4 91 rfl) rfl
theorem q1680 : (Jvm.Cond.castable "java/lang/String" "java/lang/Object") ∈ lw_tbl := lw_at lw_m7 176 rfl
theorem in_J18 : ∀ w ∈ wsJ180, w ∈ lw_all := lw_in wsJ180 [708, 710, 712, 714] (by decide +kernel) (by decide +kernel)

/-! java/lang/AbstractStringBuilder -/
def RJ19 : String := "java/lang/AbstractStringBuilder"
abbrev cJ19_init : ByteArray := prog_14_method_2_code
def yJ19_init : MethodName := ⟨RJ19, "<init>", "(I)V"⟩
abbrev cJ19_append : ByteArray := prog_14_method_22_code
def yJ19_append : MethodName := ⟨RJ19, "append", "(Ljava/lang/String;)Ljava/lang/AbstractStringBuilder;"⟩
abbrev cJ19_appendNull : ByteArray := prog_14_method_26_code
def yJ19_appendNull : MethodName := ⟨RJ19, "appendNull", "()Ljava/lang/AbstractStringBuilder;"⟩
abbrev cJ19_ensureCapacityInternal : ByteArray := prog_14_method_9_code
def yJ19_ensureCapacityInternal : MethodName := ⟨RJ19, "ensureCapacityInternal", "(I)V"⟩
abbrev cJ19_newCapacity : ByteArray := prog_14_method_10_code
def yJ19_newCapacity : MethodName := ⟨RJ19, "newCapacity", "(I)I"⟩
abbrev cJ19_isLatin1 : ByteArray := prog_14_method_68_code
def yJ19_isLatin1 : MethodName := ⟨RJ19, "isLatin1", "()Z"⟩
abbrev cJ19_putStringAt : ByteArray := prog_14_method_73_code
def yJ19_putStringAt : MethodName := ⟨RJ19, "putStringAt", "(ILjava/lang/String;)V"⟩
abbrev cJ19_inflateIfNeededFor : ByteArray := prog_14_method_71_code
def yJ19_inflateIfNeededFor : MethodName := ⟨RJ19, "inflateIfNeededFor", "(Ljava/lang/String;)V"⟩
abbrev cJ19_inflate : ByteArray := prog_14_method_11_code
def yJ19_inflate : MethodName := ⟨RJ19, "inflate", "()V"⟩
abbrev cJ19_append_2 : ByteArray := prog_14_method_32_code
def yJ19_append_2 : MethodName := ⟨RJ19, "append", "(I)Ljava/lang/AbstractStringBuilder;"⟩
abbrev cJ19_getValue : ByteArray := prog_14_method_64_code
def yJ19_getValue : MethodName := ⟨RJ19, "getValue", "()[B"⟩
abbrev cJ19_length : ByteArray := prog_14_method_6_code
def yJ19_length : MethodName := ⟨RJ19, "length", "()I"⟩
theorem q96 : (Jvm.Cond.initialized "java/lang/AbstractStringBuilder") ∈ lw_all := lw_g (lw_at lw_m1 32 rfl) rfl
theorem q411 : (Jvm.Cond.instanceMethod ({ cls := "java/lang/AbstractStringBuilder", name := "<init>", desc := "(I)V" } : Jvm.MethodName)) ∈ lw_all := lw_g (lw_at lw_m2 107 rfl) rfl
theorem q412 : (Jvm.Cond.code ({ cls := "java/lang/AbstractStringBuilder", name := "<init>", desc := "(I)V" } : Jvm.MethodName) prog_14_method_2_code (2 : Nat) (Option.none : Option Jvm.ClassFile.FieldType)) ∈ lw_all := lw_g (lw_at lw_m2 108 rfl) rfl
theorem q413 : (Jvm.Cond.methodLink "java/lang/AbstractStringBuilder" (3 : Nat) ({ cls := "java/lang/Object", name := "<init>", desc := "()V" } : Jvm.MethodName)) ∈ lw_all := lw_g (lw_at lw_m2 109 rfl) rfl
theorem q414 : (Jvm.Cond.fieldLink "java/lang/AbstractStringBuilder" (18 : Nat) "java/lang/String" "COMPACT_STRINGS" "Z") ∈ lw_all := lw_g (lw_at lw_m2 110 rfl) rfl
theorem q416 : (Jvm.Cond.methodLink "java/lang/AbstractStringBuilder" (26 : Nat) ({ cls := "java/lang/StringUTF16", name := "newBytesFor", desc := "(I)[B" } : Jvm.MethodName)) ∈ lw_all := lw_g (lw_at lw_m2 112 rfl) rfl
theorem q423 : (Jvm.Cond.fieldLink "java/lang/AbstractStringBuilder" (15 : Nat) "java/lang/AbstractStringBuilder" "value" "[B") ∈ lw_all := lw_g (lw_at lw_m2 119 rfl) rfl
theorem q424 : (Jvm.Cond.fieldLink "java/lang/AbstractStringBuilder" (22 : Nat) "java/lang/AbstractStringBuilder" "coder" "B") ∈ lw_all := lw_g (lw_at lw_m2 120 rfl) rfl
theorem q426 : (Jvm.Cond.fieldLink "java/lang/AbstractStringBuilder" (79 : Nat) "java/lang/AbstractStringBuilder" "count" "I") ∈ lw_all := lw_g (lw_at lw_m2 122 rfl) rfl
theorem q428 : (Jvm.Cond.soleField "java/lang/AbstractStringBuilder" "value") ∈ lw_all := lw_g (lw_at lw_m2 124 rfl) rfl
theorem q430 : (Jvm.Cond.soleField "java/lang/AbstractStringBuilder" "coder") ∈ lw_all := lw_g (lw_at lw_m2 126 rfl) rfl
theorem q432 : (Jvm.Cond.soleField "java/lang/AbstractStringBuilder" "maybeLatin1") ∈ lw_all := lw_g (lw_at lw_m2 128 rfl) rfl
theorem q434 : (Jvm.Cond.soleField "java/lang/AbstractStringBuilder" "count") ∈ lw_all := lw_g (lw_at lw_m2 130 rfl) rfl
theorem q442 : (Jvm.Cond.instanceMethod ({ cls := "java/lang/AbstractStringBuilder", name := "append", desc := "(Ljava/lang/String;)Ljava/lang/AbstractStringBuilder;" } : Jvm.MethodName)) ∈ lw_all := lw_g (lw_at lw_m2 138 rfl) rfl
theorem q443 : (Jvm.Cond.code ({ cls := "java/lang/AbstractStringBuilder", name := "append", desc := "(Ljava/lang/String;)Ljava/lang/AbstractStringBuilder;" } : Jvm.MethodName) prog_14_method_22_code (3 : Nat) (Option.some (Jvm.ClassFile.FieldType.object "java/lang/AbstractStringBuilder"))) ∈ lw_all := lw_g (lw_at lw_m2 139 rfl) rfl
theorem q444 : (Jvm.Cond.methodLink "java/lang/AbstractStringBuilder" (204 : Nat) ({ cls := "java/lang/AbstractStringBuilder", name := "appendNull", desc := "()Ljava/lang/AbstractStringBuilder;" } : Jvm.MethodName)) ∈ lw_all := lw_g (lw_at lw_m2 140 rfl) rfl
theorem q445 : (Jvm.Cond.privateMethod ({ cls := "java/lang/AbstractStringBuilder", name := "appendNull", desc := "()Ljava/lang/AbstractStringBuilder;" } : Jvm.MethodName)) ∈ lw_tbl := lw_at lw_m2 141 rfl
theorem q446 : (Jvm.Cond.instanceMethod ({ cls := "java/lang/AbstractStringBuilder", name := "appendNull", desc := "()Ljava/lang/AbstractStringBuilder;" } : Jvm.MethodName)) ∈ lw_all := lw_g (lw_at lw_m2 142 rfl) rfl
theorem q447 : (Jvm.Cond.code ({ cls := "java/lang/AbstractStringBuilder", name := "appendNull", desc := "()Ljava/lang/AbstractStringBuilder;" } : Jvm.MethodName) prog_14_method_26_code (3 : Nat) (Option.some (Jvm.ClassFile.FieldType.object "java/lang/AbstractStringBuilder"))) ∈ lw_all := lw_g (lw_at lw_m2 143 rfl) rfl
theorem q448 : (Jvm.Cond.methodLink "java/lang/AbstractStringBuilder" (100 : Nat) ({ cls := "java/lang/AbstractStringBuilder", name := "ensureCapacityInternal", desc := "(I)V" } : Jvm.MethodName)) ∈ lw_all := lw_g (lw_at lw_m2 144 rfl) rfl
theorem q449 : (Jvm.Cond.privateMethod ({ cls := "java/lang/AbstractStringBuilder", name := "ensureCapacityInternal", desc := "(I)V" } : Jvm.MethodName)) ∈ lw_tbl := lw_at lw_m2 145 rfl
theorem q450 : (Jvm.Cond.instanceMethod ({ cls := "java/lang/AbstractStringBuilder", name := "ensureCapacityInternal", desc := "(I)V" } : Jvm.MethodName)) ∈ lw_all := lw_g (lw_at lw_m2 146 rfl) rfl
theorem q451 : (Jvm.Cond.code ({ cls := "java/lang/AbstractStringBuilder", name := "ensureCapacityInternal", desc := "(I)V" } : Jvm.MethodName) prog_14_method_9_code (3 : Nat) (Option.none : Option Jvm.ClassFile.FieldType)) ∈ lw_all := lw_g (lw_at lw_m2 147 rfl) rfl
theorem q452 : (Jvm.Cond.methodLink "java/lang/AbstractStringBuilder" (104 : Nat) ({ cls := "java/lang/AbstractStringBuilder", name := "newCapacity", desc := "(I)I" } : Jvm.MethodName)) ∈ lw_all := lw_g (lw_at lw_m2 148 rfl) rfl
theorem q453 : (Jvm.Cond.privateMethod ({ cls := "java/lang/AbstractStringBuilder", name := "newCapacity", desc := "(I)I" } : Jvm.MethodName)) ∈ lw_tbl := lw_at lw_m2 149 rfl
theorem q454 : (Jvm.Cond.instanceMethod ({ cls := "java/lang/AbstractStringBuilder", name := "newCapacity", desc := "(I)I" } : Jvm.MethodName)) ∈ lw_all := lw_g (lw_at lw_m2 150 rfl) rfl
theorem q455 : (Jvm.Cond.code ({ cls := "java/lang/AbstractStringBuilder", name := "newCapacity", desc := "(I)I" } : Jvm.MethodName) prog_14_method_10_code (6 : Nat) (Option.some Jvm.ClassFile.FieldType.int)) ∈ lw_all := lw_g (lw_at lw_m2 151 rfl) rfl
theorem q456 : (Jvm.Cond.methodLink "java/lang/AbstractStringBuilder" (114 : Nat) ({ cls := "jdk/internal/util/ArraysSupport", name := "newLength", desc := "(III)I" } : Jvm.MethodName)) ∈ lw_all := lw_g (lw_at lw_m2 152 rfl) rfl
theorem q466 : (Jvm.Cond.constant "java/lang/AbstractStringBuilder" (39 : Nat) (2147483647 : Int32)) ∈ lw_all := lw_g (lw_at lw_m2 162 rfl) rfl
theorem q467 : (Jvm.Cond.methodLink "java/lang/AbstractStringBuilder" (108 : Nat) ({ cls := "java/util/Arrays", name := "copyOf", desc := "([BI)[B" } : Jvm.MethodName)) ∈ lw_all := lw_g (lw_at lw_m2 163 rfl) rfl
theorem q483 : (Jvm.Cond.methodLink "java/lang/AbstractStringBuilder" (83 : Nat) ({ cls := "java/lang/AbstractStringBuilder", name := "isLatin1", desc := "()Z" } : Jvm.MethodName)) ∈ lw_all := lw_g (lw_at lw_m2 179 rfl) rfl
theorem q484 : (Jvm.Cond.instanceMethod ({ cls := "java/lang/AbstractStringBuilder", name := "isLatin1", desc := "()Z" } : Jvm.MethodName)) ∈ lw_all := lw_g (lw_at lw_m2 180 rfl) rfl
theorem q485 : (Jvm.Cond.sameMethod "java/lang/AbstractStringBuilder" "java/lang/AbstractStringBuilder" "isLatin1" "()Z") ∈ lw_all := lw_g (lw_at lw_m2 181 rfl) rfl
theorem q487 : (Jvm.Cond.code ({ cls := "java/lang/AbstractStringBuilder", name := "isLatin1", desc := "()Z" } : Jvm.MethodName) prog_14_method_68_code (1 : Nat) (Option.some Jvm.ClassFile.FieldType.boolean)) ∈ lw_all := lw_g (lw_at lw_m2 183 rfl) rfl
theorem q488 : (Jvm.Cond.methodLink "java/lang/AbstractStringBuilder" (226 : Nat) ({ cls := "java/lang/StringUTF16", name := "putCharsAt", desc := "([BICCCC)I" } : Jvm.MethodName)) ∈ lw_all := lw_g (lw_at lw_m2 184 rfl) rfl
theorem q514 : (Jvm.Cond.methodLink "java/lang/AbstractStringBuilder" (32 : Nat) ({ cls := "java/lang/String", name := "length", desc := "()I" } : Jvm.MethodName)) ∈ lw_all := lw_g (lw_at lw_m2 210 rfl) rfl
theorem q523 : (Jvm.Cond.methodLink "java/lang/AbstractStringBuilder" (208 : Nat) ({ cls := "java/lang/AbstractStringBuilder", name := "putStringAt", desc := "(ILjava/lang/String;)V" } : Jvm.MethodName)) ∈ lw_all := lw_g (lw_at lw_m2 219 rfl) rfl
theorem q524 : (Jvm.Cond.privateMethod ({ cls := "java/lang/AbstractStringBuilder", name := "putStringAt", desc := "(ILjava/lang/String;)V" } : Jvm.MethodName)) ∈ lw_tbl := lw_at lw_m2 220 rfl
theorem q525 : (Jvm.Cond.instanceMethod ({ cls := "java/lang/AbstractStringBuilder", name := "putStringAt", desc := "(ILjava/lang/String;)V" } : Jvm.MethodName)) ∈ lw_all := lw_g (lw_at lw_m2 221 rfl) rfl
theorem q526 : (Jvm.Cond.code ({ cls := "java/lang/AbstractStringBuilder", name := "putStringAt", desc := "(ILjava/lang/String;)V" } : Jvm.MethodName) prog_14_method_73_code (3 : Nat) (Option.none : Option Jvm.ClassFile.FieldType)) ∈ lw_all := lw_g (lw_at lw_m2 222 rfl) rfl
theorem q527 : (Jvm.Cond.methodLink "java/lang/AbstractStringBuilder" (397 : Nat) ({ cls := "java/lang/AbstractStringBuilder", name := "inflateIfNeededFor", desc := "(Ljava/lang/String;)V" } : Jvm.MethodName)) ∈ lw_all := lw_g (lw_at lw_m2 223 rfl) rfl
theorem q528 : (Jvm.Cond.privateMethod ({ cls := "java/lang/AbstractStringBuilder", name := "inflateIfNeededFor", desc := "(Ljava/lang/String;)V" } : Jvm.MethodName)) ∈ lw_tbl := lw_at lw_m2 224 rfl
theorem q529 : (Jvm.Cond.instanceMethod ({ cls := "java/lang/AbstractStringBuilder", name := "inflateIfNeededFor", desc := "(Ljava/lang/String;)V" } : Jvm.MethodName)) ∈ lw_all := lw_g (lw_at lw_m2 225 rfl) rfl
theorem q530 : (Jvm.Cond.code ({ cls := "java/lang/AbstractStringBuilder", name := "inflateIfNeededFor", desc := "(Ljava/lang/String;)V" } : Jvm.MethodName) prog_14_method_71_code (2 : Nat) (Option.none : Option Jvm.ClassFile.FieldType)) ∈ lw_all := lw_g (lw_at lw_m2 226 rfl) rfl
theorem q531 : (Jvm.Cond.methodLink "java/lang/AbstractStringBuilder" (40 : Nat) ({ cls := "java/lang/String", name := "coder", desc := "()B" } : Jvm.MethodName)) ∈ lw_all := lw_g (lw_at lw_m2 227 rfl) rfl
theorem q532 : (Jvm.Cond.methodLink "java/lang/AbstractStringBuilder" (195 : Nat) ({ cls := "java/lang/AbstractStringBuilder", name := "inflate", desc := "()V" } : Jvm.MethodName)) ∈ lw_all := lw_g (lw_at lw_m2 228 rfl) rfl
theorem q533 : (Jvm.Cond.privateMethod ({ cls := "java/lang/AbstractStringBuilder", name := "inflate", desc := "()V" } : Jvm.MethodName)) ∈ lw_tbl := lw_at lw_m2 229 rfl
theorem q534 : (Jvm.Cond.instanceMethod ({ cls := "java/lang/AbstractStringBuilder", name := "inflate", desc := "()V" } : Jvm.MethodName)) ∈ lw_all := lw_g (lw_at lw_m2 230 rfl) rfl
theorem q535 : (Jvm.Cond.code ({ cls := "java/lang/AbstractStringBuilder", name := "inflate", desc := "()V" } : Jvm.MethodName) prog_14_method_11_code (2 : Nat) (Option.none : Option Jvm.ClassFile.FieldType)) ∈ lw_all := lw_g (lw_at lw_m2 231 rfl) rfl
theorem q536 : (Jvm.Cond.methodLink "java/lang/AbstractStringBuilder" (125 : Nat) ({ cls := "java/lang/StringLatin1", name := "inflate", desc := "([BI[BII)V" } : Jvm.MethodName)) ∈ lw_all := lw_g (lw_at lw_m2 232 rfl) rfl
theorem q551 : (Jvm.Cond.methodLink "java/lang/AbstractStringBuilder" (399 : Nat) ({ cls := "java/lang/String", name := "getBytes", desc := "([BIB)V" } : Jvm.MethodName)) ∈ lw_all := lw_g (lw_at lw_m3 7 rfl) rfl
theorem q562 : (Jvm.Cond.instanceMethod ({ cls := "java/lang/AbstractStringBuilder", name := "append", desc := "(I)Ljava/lang/AbstractStringBuilder;" } : Jvm.MethodName)) ∈ lw_all := lw_g (lw_at lw_m3 18 rfl) rfl
theorem q563 : (Jvm.Cond.code ({ cls := "java/lang/AbstractStringBuilder", name := "append", desc := "(I)Ljava/lang/AbstractStringBuilder;" } : Jvm.MethodName) prog_14_method_32_code (4 : Nat) (Option.some (Jvm.ClassFile.FieldType.object "java/lang/AbstractStringBuilder"))) ∈ lw_all := lw_g (lw_at lw_m3 19 rfl) rfl
theorem q564 : (Jvm.Cond.methodLink "java/lang/AbstractStringBuilder" (245 : Nat) ({ cls := "java/lang/Integer", name := "stringSize", desc := "(I)I" } : Jvm.MethodName)) ∈ lw_all := lw_g (lw_at lw_m3 20 rfl) rfl
theorem q567 : (Jvm.Cond.methodLink "java/lang/AbstractStringBuilder" (248 : Nat) ({ cls := "java/lang/Integer", name := "getChars", desc := "(II[B)I" } : Jvm.MethodName)) ∈ lw_all := lw_g (lw_at lw_m3 23 rfl) rfl
theorem q574 : (Jvm.Cond.methodLink "java/lang/AbstractStringBuilder" (251 : Nat) ({ cls := "java/lang/StringUTF16", name := "getChars", desc := "(III[B)I" } : Jvm.MethodName)) ∈ lw_all := lw_g (lw_at lw_m3 30 rfl) rfl
theorem q596 : (Jvm.Cond.instanceMethod ({ cls := "java/lang/AbstractStringBuilder", name := "getValue", desc := "()[B" } : Jvm.MethodName)) ∈ lw_all := lw_g (lw_at lw_m3 52 rfl) rfl
theorem q597 : (Jvm.Cond.sameMethod "java/lang/AbstractStringBuilder" "java/lang/AbstractStringBuilder" "getValue" "()[B") ∈ lw_all := lw_g (lw_at lw_m3 53 rfl) rfl
theorem q599 : (Jvm.Cond.code ({ cls := "java/lang/AbstractStringBuilder", name := "getValue", desc := "()[B" } : Jvm.MethodName) prog_14_method_64_code (1 : Nat) (Option.some (Jvm.ClassFile.FieldType.array Jvm.ClassFile.FieldType.byte))) ∈ lw_all := lw_g (lw_at lw_m3 55 rfl) rfl
theorem q601 : (Jvm.Cond.instanceMethod ({ cls := "java/lang/AbstractStringBuilder", name := "length", desc := "()I" } : Jvm.MethodName)) ∈ lw_all := lw_g (lw_at lw_m3 57 rfl) rfl
theorem q602 : (Jvm.Cond.sameMethod "java/lang/AbstractStringBuilder" "java/lang/AbstractStringBuilder" "length" "()I") ∈ lw_all := lw_g (lw_at lw_m3 58 rfl) rfl
theorem q607 : (Jvm.Cond.code ({ cls := "java/lang/AbstractStringBuilder", name := "length", desc := "()I" } : Jvm.MethodName) prog_14_method_6_code (1 : Nat) (Option.some Jvm.ClassFile.FieldType.int)) ∈ lw_all := lw_g (lw_at lw_m3 63 rfl) rfl
theorem q1649 : (Jvm.Cond.sameMethod "java/lang/AbstractStringBuilder" "java/lang/AbstractStringBuilder" "append" "(Ljava/lang/String;)Ljava/lang/AbstractStringBuilder;") ∈ lw_all := lw_g (lw_at lw_m7 145 rfl) rfl
theorem q1650 : (Jvm.Cond.sameMethod "java/lang/AbstractStringBuilder" "java/lang/AbstractStringBuilder" "appendNull" "()Ljava/lang/AbstractStringBuilder;") ∈ lw_all := lw_g (lw_at lw_m7 146 rfl) rfl
theorem q1651 : (Jvm.Cond.sameMethod "java/lang/AbstractStringBuilder" "java/lang/AbstractStringBuilder" "ensureCapacityInternal" "(I)V") ∈ lw_all := lw_g (lw_at lw_m7 147 rfl) rfl
theorem q1652 : (Jvm.Cond.sameMethod "java/lang/AbstractStringBuilder" "java/lang/AbstractStringBuilder" "newCapacity" "(I)I") ∈ lw_all := lw_g (lw_at lw_m7 148 rfl) rfl
theorem q1653 : (Jvm.Cond.sameMethod "java/lang/AbstractStringBuilder" "java/lang/AbstractStringBuilder" "putStringAt" "(ILjava/lang/String;)V") ∈ lw_all := lw_g (lw_at lw_m7 149 rfl) rfl
theorem q1654 : (Jvm.Cond.sameMethod "java/lang/AbstractStringBuilder" "java/lang/AbstractStringBuilder" "inflateIfNeededFor" "(Ljava/lang/String;)V") ∈ lw_all := lw_g (lw_at lw_m7 150 rfl) rfl
theorem q1655 : (Jvm.Cond.sameMethod "java/lang/AbstractStringBuilder" "java/lang/AbstractStringBuilder" "inflate" "()V") ∈ lw_all := lw_g (lw_at lw_m7 151 rfl) rfl
theorem q1656 : (Jvm.Cond.sameMethod "java/lang/AbstractStringBuilder" "java/lang/AbstractStringBuilder" "append" "(I)Ljava/lang/AbstractStringBuilder;") ∈ lw_all := lw_g (lw_at lw_m7 152 rfl) rfl

/-! java/lang/StringBuilder -/
def RJ20 : String := "java/lang/StringBuilder"
def TJ20 : u_T := fun k => match k with
  | 0 => ("java/lang/AbstractStringBuilder", "value", "[B", false)
  | 1 => ("java/lang/AbstractStringBuilder", "coder", "B", false)
  | 2 => ("java/lang/AbstractStringBuilder", "maybeLatin1", "Z", false)
  | _ => ("java/lang/AbstractStringBuilder", "count", "I", false)
def tyJ20 : Nat → FieldType := fun k => match k with
  | 0 => .array .byte
  | 1 => .byte
  | 2 => .boolean
  | _ => .int
abbrev wsJ200 : List Cond := u_ws RJ20 TJ20 4
theorem nmJ20 : ∀ a, a < 4 → ∀ b, b < 4 → a ≠ b → (TJ20 a).2.1 ≠ (TJ20 b).2.1 := by decide +kernel
theorem tyJ20_ok : ∀ k, k < 4 → parseFieldDescriptor (TJ20 k).2.2.1 = some (tyJ20 k) := by decide +kernel
abbrev cJ20_init : ByteArray := prog_27_method_1_code
def yJ20_init : MethodName := ⟨RJ20, "<init>", "()V"⟩
abbrev cJ20_append : ByteArray := prog_27_method_7_code
def yJ20_append : MethodName := ⟨RJ20, "append", "(Ljava/lang/String;)Ljava/lang/StringBuilder;"⟩
abbrev cJ20_append_2 : ByteArray := prog_27_method_15_code
def yJ20_append_2 : MethodName := ⟨RJ20, "append", "(I)Ljava/lang/StringBuilder;"⟩
abbrev cJ20_toString : ByteArray := prog_27_method_42_code
def yJ20_toString : MethodName := ⟨RJ20, "toString", "()Ljava/lang/String;"⟩
abbrev cJ20_length : ByteArray := prog_27_method_93_code
def yJ20_length : MethodName := ⟨RJ20, "length", "()I"⟩
theorem q97 : (Jvm.Cond.initialized "java/lang/StringBuilder") ∈ lw_all := lw_g (lw_at lw_m1 33 rfl) rfl
theorem q406 : (Jvm.Cond.instantiable "java/lang/StringBuilder" (4 : Nat)) ∈ lw_all := lw_g (lw_at lw_m2 102 rfl) rfl
theorem q408 : (Jvm.Cond.instanceMethod ({ cls := "java/lang/StringBuilder", name := "<init>", desc := "()V" } : Jvm.MethodName)) ∈ lw_all := lw_g (lw_at lw_m2 104 rfl) rfl
theorem q409 : (Jvm.Cond.code ({ cls := "java/lang/StringBuilder", name := "<init>", desc := "()V" } : Jvm.MethodName) prog_27_method_1_code (1 : Nat) (Option.none : Option Jvm.ClassFile.FieldType)) ∈ lw_all := lw_g (lw_at lw_m2 105 rfl) rfl
theorem q410 : (Jvm.Cond.methodLink "java/lang/StringBuilder" (1 : Nat) ({ cls := "java/lang/AbstractStringBuilder", name := "<init>", desc := "(I)V" } : Jvm.MethodName)) ∈ lw_all := lw_g (lw_at lw_m2 106 rfl) rfl
theorem q427 : (Jvm.Cond.lays "java/lang/StringBuilder" "java/lang/AbstractStringBuilder" "value" "[B") ∈ lw_all := lw_g (lw_at lw_m2 123 rfl) rfl
theorem q429 : (Jvm.Cond.lays "java/lang/StringBuilder" "java/lang/AbstractStringBuilder" "coder" "B") ∈ lw_all := lw_g (lw_at lw_m2 125 rfl) rfl
theorem q431 : (Jvm.Cond.lays "java/lang/StringBuilder" "java/lang/AbstractStringBuilder" "maybeLatin1" "Z") ∈ lw_all := lw_g (lw_at lw_m2 127 rfl) rfl
theorem q433 : (Jvm.Cond.lays "java/lang/StringBuilder" "java/lang/AbstractStringBuilder" "count" "I") ∈ lw_all := lw_g (lw_at lw_m2 129 rfl) rfl
theorem q435 : (Jvm.Cond.superclass "java/lang/StringBuilder" "java/lang/AbstractStringBuilder") ∈ lw_all := lw_g (lw_at lw_m2 131 rfl) rfl
theorem q438 : (Jvm.Cond.instanceMethod ({ cls := "java/lang/StringBuilder", name := "append", desc := "(Ljava/lang/String;)Ljava/lang/StringBuilder;" } : Jvm.MethodName)) ∈ lw_all := lw_g (lw_at lw_m2 134 rfl) rfl
theorem q439 : (Jvm.Cond.selects "java/lang/StringBuilder" ({ cls := "java/lang/StringBuilder", name := "append", desc := "(Ljava/lang/String;)Ljava/lang/StringBuilder;" } : Jvm.MethodName) ({ cls := "java/lang/StringBuilder", name := "append", desc := "(Ljava/lang/String;)Ljava/lang/StringBuilder;" } : Jvm.MethodName)) ∈ lw_all := lw_g (lw_at lw_m2 135 rfl) rfl
theorem q440 : (Jvm.Cond.code ({ cls := "java/lang/StringBuilder", name := "append", desc := "(Ljava/lang/String;)Ljava/lang/StringBuilder;" } : Jvm.MethodName) prog_27_method_7_code (2 : Nat) (Option.some (Jvm.ClassFile.FieldType.object "java/lang/StringBuilder"))) ∈ lw_all := lw_g (lw_at lw_m2 136 rfl) rfl
theorem q441 : (Jvm.Cond.methodLink "java/lang/StringBuilder" (29 : Nat) ({ cls := "java/lang/AbstractStringBuilder", name := "append", desc := "(Ljava/lang/String;)Ljava/lang/AbstractStringBuilder;" } : Jvm.MethodName)) ∈ lw_all := lw_g (lw_at lw_m2 137 rfl) rfl
theorem q486 : (Jvm.Cond.selects "java/lang/StringBuilder" ({ cls := "java/lang/AbstractStringBuilder", name := "isLatin1", desc := "()Z" } : Jvm.MethodName) ({ cls := "java/lang/AbstractStringBuilder", name := "isLatin1", desc := "()Z" } : Jvm.MethodName)) ∈ lw_all := lw_g (lw_at lw_m2 182 rfl) rfl
theorem q558 : (Jvm.Cond.instanceMethod ({ cls := "java/lang/StringBuilder", name := "append", desc := "(I)Ljava/lang/StringBuilder;" } : Jvm.MethodName)) ∈ lw_all := lw_g (lw_at lw_m3 14 rfl) rfl
theorem q559 : (Jvm.Cond.selects "java/lang/StringBuilder" ({ cls := "java/lang/StringBuilder", name := "append", desc := "(I)Ljava/lang/StringBuilder;" } : Jvm.MethodName) ({ cls := "java/lang/StringBuilder", name := "append", desc := "(I)Ljava/lang/StringBuilder;" } : Jvm.MethodName)) ∈ lw_all := lw_g (lw_at lw_m3 15 rfl) rfl
theorem q560 : (Jvm.Cond.code ({ cls := "java/lang/StringBuilder", name := "append", desc := "(I)Ljava/lang/StringBuilder;" } : Jvm.MethodName) prog_27_method_15_code (2 : Nat) (Option.some (Jvm.ClassFile.FieldType.object "java/lang/StringBuilder"))) ∈ lw_all := lw_g (lw_at lw_m3 16 rfl) rfl
theorem q561 : (Jvm.Cond.methodLink "java/lang/StringBuilder" (53 : Nat) ({ cls := "java/lang/AbstractStringBuilder", name := "append", desc := "(I)Ljava/lang/AbstractStringBuilder;" } : Jvm.MethodName)) ∈ lw_all := lw_g (lw_at lw_m3 17 rfl) rfl
theorem q583 : (Jvm.Cond.instanceMethod ({ cls := "java/lang/StringBuilder", name := "toString", desc := "()Ljava/lang/String;" } : Jvm.MethodName)) ∈ lw_all := lw_g (lw_at lw_m3 39 rfl) rfl
theorem q584 : (Jvm.Cond.selects "java/lang/StringBuilder" ({ cls := "java/lang/StringBuilder", name := "toString", desc := "()Ljava/lang/String;" } : Jvm.MethodName) ({ cls := "java/lang/StringBuilder", name := "toString", desc := "()Ljava/lang/String;" } : Jvm.MethodName)) ∈ lw_all := lw_g (lw_at lw_m3 40 rfl) rfl
theorem q585 : (Jvm.Cond.code ({ cls := "java/lang/StringBuilder", name := "toString", desc := "()Ljava/lang/String;" } : Jvm.MethodName) prog_27_method_42_code (1 : Nat) (Option.some (Jvm.ClassFile.FieldType.object "java/lang/String"))) ∈ lw_all := lw_g (lw_at lw_m3 41 rfl) rfl
theorem q586 : (Jvm.Cond.classLink "java/lang/StringBuilder" (18 : Nat) "java/lang/String") ∈ lw_all := lw_g (lw_at lw_m3 42 rfl) rfl
theorem q588 : (Jvm.Cond.methodLink "java/lang/StringBuilder" (137 : Nat) ({ cls := "java/lang/String", name := "<init>", desc := "(Ljava/lang/StringBuilder;)V" } : Jvm.MethodName)) ∈ lw_all := lw_g (lw_at lw_m3 44 rfl) rfl
theorem q598 : (Jvm.Cond.selects "java/lang/StringBuilder" ({ cls := "java/lang/AbstractStringBuilder", name := "getValue", desc := "()[B" } : Jvm.MethodName) ({ cls := "java/lang/AbstractStringBuilder", name := "getValue", desc := "()[B" } : Jvm.MethodName)) ∈ lw_all := lw_g (lw_at lw_m3 54 rfl) rfl
theorem q603 : (Jvm.Cond.selects "java/lang/StringBuilder" ({ cls := "java/lang/AbstractStringBuilder", name := "length", desc := "()I" } : Jvm.MethodName) ({ cls := "java/lang/StringBuilder", name := "length", desc := "()I" } : Jvm.MethodName)) ∈ lw_all := lw_g (lw_at lw_m3 59 rfl) rfl
theorem q604 : (Jvm.Cond.instanceMethod ({ cls := "java/lang/StringBuilder", name := "length", desc := "()I" } : Jvm.MethodName)) ∈ lw_all := lw_g (lw_at lw_m3 60 rfl) rfl
theorem q605 : (Jvm.Cond.code ({ cls := "java/lang/StringBuilder", name := "length", desc := "()I" } : Jvm.MethodName) prog_27_method_93_code (1 : Nat) (Option.some Jvm.ClassFile.FieldType.int)) ∈ lw_all := lw_g (lw_at lw_m3 61 rfl) rfl
theorem q606 : (Jvm.Cond.methodLink "java/lang/StringBuilder" (343 : Nat) ({ cls := "java/lang/AbstractStringBuilder", name := "length", desc := "()I" } : Jvm.MethodName)) ∈ lw_all := lw_g (lw_at lw_m3 62 rfl) rfl
theorem q876 : (Jvm.Cond.selects "java/lang/StringBuilder" ({ cls := "java/lang/Object", name := "getClass", desc := "()Ljava/lang/Class;" } : Jvm.MethodName) ({ cls := "java/lang/Object", name := "getClass", desc := "()Ljava/lang/Class;" } : Jvm.MethodName)) ∈ lw_all := lw_g (lw_at lw_m4 92 rfl) rfl
theorem q1679 : (Jvm.Cond.castable "java/lang/StringBuilder" "java/lang/Object") ∈ lw_tbl := lw_at lw_m7 175 rfl
theorem in_J20 : ∀ w ∈ wsJ200, w ∈ lw_all := lw_in wsJ200 [427, 429, 431, 433] (by decide +kernel) (by decide +kernel)

/-! java/lang/StringUTF16 -/
def RJ21 : String := "java/lang/StringUTF16"
abbrev cJ21_newBytesFor : ByteArray := prog_29_method_2_code
def yJ21_newBytesFor : MethodName := ⟨RJ21, "newBytesFor", "(I)[B"⟩
abbrev cJ21_newBytesLength : ByteArray := prog_29_method_3_code
def yJ21_newBytesLength : MethodName := ⟨RJ21, "newBytesLength", "(I)I"⟩
abbrev cJ21_putCharsAt : ByteArray := prog_29_method_81_code
def yJ21_putCharsAt : MethodName := ⟨RJ21, "putCharsAt", "([BICCCC)I"⟩
abbrev cJ21_checkBoundsBeginEnd : ByteArray := prog_29_method_93_code
def yJ21_checkBoundsBeginEnd : MethodName := ⟨RJ21, "checkBoundsBeginEnd", "(II[B)V"⟩
abbrev cJ21_length : ByteArray := prog_29_method_6_code
def yJ21_length : MethodName := ⟨RJ21, "length", "([B)I"⟩
abbrev cJ21_putChar : ByteArray := prog_29_method_4_code
def yJ21_putChar : MethodName := ⟨RJ21, "putChar", "([BII)V"⟩
abbrev cJ21_inflate : ByteArray := prog_29_method_86_code
def yJ21_inflate : MethodName := ⟨RJ21, "inflate", "([BI[BII)V"⟩
abbrev cJ21_checkBoundsOffCount : ByteArray := prog_29_method_94_code
def yJ21_checkBoundsOffCount : MethodName := ⟨RJ21, "checkBoundsOffCount", "(II[B)V"⟩
abbrev cJ21_getChars : ByteArray := prog_29_method_77_code
def yJ21_getChars : MethodName := ⟨RJ21, "getChars", "(III[B)I"⟩
abbrev cJ21_getChars_2 : ByteArray := prog_29_method_89_code
def yJ21_getChars_2 : MethodName := ⟨RJ21, "getChars", "(II[B)I"⟩
abbrev cJ21_compress : ByteArray := prog_29_method_17_code
def yJ21_compress : MethodName := ⟨RJ21, "compress", "([BII)[B"⟩
abbrev cJ21_compress_2 : ByteArray := prog_29_method_22_code
def yJ21_compress_2 : MethodName := ⟨RJ21, "compress", "([BI[BII)I"⟩
abbrev cJ21_getChar : ByteArray := prog_29_method_5_code
def yJ21_getChar : MethodName := ⟨RJ21, "getChar", "([BI)C"⟩
abbrev cJ21_coderFromArrayLen : ByteArray := prog_29_method_15_code
def yJ21_coderFromArrayLen : MethodName := ⟨RJ21, "coderFromArrayLen", "([BI)B"⟩
abbrev cJ21_charAt : ByteArray := prog_29_method_83_code
def yJ21_charAt : MethodName := ⟨RJ21, "charAt", "([BI)C"⟩
abbrev cJ21_checkIndex : ByteArray := prog_29_method_91_code
def yJ21_checkIndex : MethodName := ⟨RJ21, "checkIndex", "(I[B)V"⟩
theorem q98 : (Jvm.Cond.initialized "java/lang/StringUTF16") ∈ lw_all := lw_g (lw_at lw_m1 34 rfl) rfl
theorem q417 : (Jvm.Cond.static ({ cls := "java/lang/StringUTF16", name := "newBytesFor", desc := "(I)[B" } : Jvm.MethodName)) ∈ lw_all := lw_g (lw_at lw_m2 113 rfl) rfl
theorem q418 : (Jvm.Cond.code ({ cls := "java/lang/StringUTF16", name := "newBytesFor", desc := "(I)[B" } : Jvm.MethodName) prog_29_method_2_code (1 : Nat) (Option.some (Jvm.ClassFile.FieldType.array Jvm.ClassFile.FieldType.byte))) ∈ lw_all := lw_g (lw_at lw_m2 114 rfl) rfl
theorem q419 : (Jvm.Cond.methodLink "java/lang/StringUTF16" (11 : Nat) ({ cls := "java/lang/StringUTF16", name := "newBytesLength", desc := "(I)I" } : Jvm.MethodName)) ∈ lw_all := lw_g (lw_at lw_m2 115 rfl) rfl
theorem q420 : (Jvm.Cond.static ({ cls := "java/lang/StringUTF16", name := "newBytesLength", desc := "(I)I" } : Jvm.MethodName)) ∈ lw_all := lw_g (lw_at lw_m2 116 rfl) rfl
theorem q421 : (Jvm.Cond.code ({ cls := "java/lang/StringUTF16", name := "newBytesLength", desc := "(I)I" } : Jvm.MethodName) prog_29_method_3_code (1 : Nat) (Option.some Jvm.ClassFile.FieldType.int)) ∈ lw_all := lw_g (lw_at lw_m2 117 rfl) rfl
theorem q422 : (Jvm.Cond.constant "java/lang/StringUTF16" (20 : Nat) (1073741823 : Int32)) ∈ lw_all := lw_g (lw_at lw_m2 118 rfl) rfl
theorem q489 : (Jvm.Cond.static ({ cls := "java/lang/StringUTF16", name := "putCharsAt", desc := "([BICCCC)I" } : Jvm.MethodName)) ∈ lw_all := lw_g (lw_at lw_m2 185 rfl) rfl
theorem q490 : (Jvm.Cond.code ({ cls := "java/lang/StringUTF16", name := "putCharsAt", desc := "([BICCCC)I" } : Jvm.MethodName) prog_29_method_81_code (7 : Nat) (Option.some Jvm.ClassFile.FieldType.int)) ∈ lw_all := lw_g (lw_at lw_m2 186 rfl) rfl
theorem q491 : (Jvm.Cond.methodLink "java/lang/StringUTF16" (96 : Nat) ({ cls := "java/lang/StringUTF16", name := "checkBoundsBeginEnd", desc := "(II[B)V" } : Jvm.MethodName)) ∈ lw_all := lw_g (lw_at lw_m2 187 rfl) rfl
theorem q492 : (Jvm.Cond.static ({ cls := "java/lang/StringUTF16", name := "checkBoundsBeginEnd", desc := "(II[B)V" } : Jvm.MethodName)) ∈ lw_all := lw_g (lw_at lw_m2 188 rfl) rfl
theorem q493 : (Jvm.Cond.code ({ cls := "java/lang/StringUTF16", name := "checkBoundsBeginEnd", desc := "(II[B)V" } : Jvm.MethodName) prog_29_method_93_code (3 : Nat) (Option.none : Option Jvm.ClassFile.FieldType)) ∈ lw_all := lw_g (lw_at lw_m2 189 rfl) rfl
theorem q494 : (Jvm.Cond.methodLink "java/lang/StringUTF16" (48 : Nat) ({ cls := "java/lang/StringUTF16", name := "length", desc := "([B)I" } : Jvm.MethodName)) ∈ lw_all := lw_g (lw_at lw_m2 190 rfl) rfl
theorem q495 : (Jvm.Cond.static ({ cls := "java/lang/StringUTF16", name := "length", desc := "([B)I" } : Jvm.MethodName)) ∈ lw_all := lw_g (lw_at lw_m2 191 rfl) rfl
theorem q496 : (Jvm.Cond.code ({ cls := "java/lang/StringUTF16", name := "length", desc := "([B)I" } : Jvm.MethodName) prog_29_method_6_code (1 : Nat) (Option.some Jvm.ClassFile.FieldType.int)) ∈ lw_all := lw_g (lw_at lw_m2 192 rfl) rfl
theorem q497 : (Jvm.Cond.methodLink "java/lang/StringUTF16" (241 : Nat) ({ cls := "java/lang/String", name := "checkBoundsBeginEnd", desc := "(III)V" } : Jvm.MethodName)) ∈ lw_all := lw_g (lw_at lw_m2 193 rfl) rfl
theorem q505 : (Jvm.Cond.methodLink "java/lang/StringUTF16" (111 : Nat) ({ cls := "java/lang/StringUTF16", name := "putChar", desc := "([BII)V" } : Jvm.MethodName)) ∈ lw_all := lw_g (lw_at lw_m2 201 rfl) rfl
theorem q506 : (Jvm.Cond.static ({ cls := "java/lang/StringUTF16", name := "putChar", desc := "([BII)V" } : Jvm.MethodName)) ∈ lw_all := lw_g (lw_at lw_m2 202 rfl) rfl
theorem q507 : (Jvm.Cond.code ({ cls := "java/lang/StringUTF16", name := "putChar", desc := "([BII)V" } : Jvm.MethodName) prog_29_method_4_code (3 : Nat) (Option.none : Option Jvm.ClassFile.FieldType)) ∈ lw_all := lw_g (lw_at lw_m2 203 rfl) rfl
theorem q508 : (Jvm.Cond.fieldLink "java/lang/StringUTF16" (44 : Nat) "java/lang/StringUTF16" "$assertionsDisabled" "Z") ∈ lw_all := lw_g (lw_at lw_m2 204 rfl) rfl
theorem q509 : (Jvm.Cond.laysStatic "java/lang/StringUTF16" "$assertionsDisabled" "Z") ∈ lw_tbl := lw_at lw_m2 205 rfl
theorem q510 : (Jvm.Cond.fieldLink "java/lang/StringUTF16" (59 : Nat) "java/lang/StringUTF16" "HI_BYTE_SHIFT" "I") ∈ lw_all := lw_g (lw_at lw_m2 206 rfl) rfl
theorem q511 : (Jvm.Cond.laysStatic "java/lang/StringUTF16" "HI_BYTE_SHIFT" "I") ∈ lw_tbl := lw_at lw_m2 207 rfl
theorem q512 : (Jvm.Cond.fieldLink "java/lang/StringUTF16" (63 : Nat) "java/lang/StringUTF16" "LO_BYTE_SHIFT" "I") ∈ lw_all := lw_g (lw_at lw_m2 208 rfl) rfl
theorem q513 : (Jvm.Cond.laysStatic "java/lang/StringUTF16" "LO_BYTE_SHIFT" "I") ∈ lw_tbl := lw_at lw_m2 209 rfl
theorem q540 : (Jvm.Cond.static ({ cls := "java/lang/StringUTF16", name := "inflate", desc := "([BI[BII)V" } : Jvm.MethodName)) ∈ lw_all := lw_g (lw_at lw_m2 236 rfl) rfl
theorem q541 : (Jvm.Cond.code ({ cls := "java/lang/StringUTF16", name := "inflate", desc := "([BI[BII)V" } : Jvm.MethodName) prog_29_method_86_code (6 : Nat) (Option.none : Option Jvm.ClassFile.FieldType)) ∈ lw_all := lw_g (lw_at lw_m2 237 rfl) rfl
theorem q542 : (Jvm.Cond.methodLink "java/lang/StringUTF16" (173 : Nat) ({ cls := "java/lang/StringUTF16", name := "checkBoundsOffCount", desc := "(II[B)V" } : Jvm.MethodName)) ∈ lw_all := lw_g (lw_at lw_m2 238 rfl) rfl
theorem q543 : (Jvm.Cond.static ({ cls := "java/lang/StringUTF16", name := "checkBoundsOffCount", desc := "(II[B)V" } : Jvm.MethodName)) ∈ lw_all := lw_g (lw_at lw_m2 239 rfl) rfl
theorem q544 : (Jvm.Cond.code ({ cls := "java/lang/StringUTF16", name := "checkBoundsOffCount", desc := "(II[B)V" } : Jvm.MethodName) prog_29_method_94_code (3 : Nat) (Option.none : Option Jvm.ClassFile.FieldType)) ∈ lw_all := lw_g (lw_at lw_m3 0 rfl) rfl
theorem q545 : (Jvm.Cond.methodLink "java/lang/StringUTF16" (419 : Nat) ({ cls := "java/lang/String", name := "checkBoundsOffCount", desc := "(III)I" } : Jvm.MethodName)) ∈ lw_all := lw_g (lw_at lw_m3 1 rfl) rfl
theorem q575 : (Jvm.Cond.static ({ cls := "java/lang/StringUTF16", name := "getChars", desc := "(III[B)I" } : Jvm.MethodName)) ∈ lw_all := lw_g (lw_at lw_m3 31 rfl) rfl
theorem q576 : (Jvm.Cond.code ({ cls := "java/lang/StringUTF16", name := "getChars", desc := "(III[B)I" } : Jvm.MethodName) prog_29_method_77_code (5 : Nat) (Option.some Jvm.ClassFile.FieldType.int)) ∈ lw_all := lw_g (lw_at lw_m3 32 rfl) rfl
theorem q577 : (Jvm.Cond.methodLink "java/lang/StringUTF16" (393 : Nat) ({ cls := "java/lang/StringUTF16", name := "getChars", desc := "(II[B)I" } : Jvm.MethodName)) ∈ lw_all := lw_g (lw_at lw_m3 33 rfl) rfl
theorem q578 : (Jvm.Cond.static ({ cls := "java/lang/StringUTF16", name := "getChars", desc := "(II[B)I" } : Jvm.MethodName)) ∈ lw_all := lw_g (lw_at lw_m3 34 rfl) rfl
theorem q579 : (Jvm.Cond.code ({ cls := "java/lang/StringUTF16", name := "getChars", desc := "(II[B)I" } : Jvm.MethodName) prog_29_method_89_code (7 : Nat) (Option.some Jvm.ClassFile.FieldType.int)) ∈ lw_all := lw_g (lw_at lw_m3 35 rfl) rfl
theorem q580 : (Jvm.Cond.fieldLink "java/lang/StringUTF16" (403 : Nat) "java/lang/Integer" "DigitOnes" "[B") ∈ lw_all := lw_g (lw_at lw_m3 36 rfl) rfl
theorem q581 : (Jvm.Cond.fieldLink "java/lang/StringUTF16" (407 : Nat) "java/lang/Integer" "DigitTens" "[B") ∈ lw_all := lw_g (lw_at lw_m3 37 rfl) rfl
theorem q694 : (Jvm.Cond.static ({ cls := "java/lang/StringUTF16", name := "compress", desc := "([BII)[B" } : Jvm.MethodName)) ∈ lw_all := lw_g (lw_at lw_m3 150 rfl) rfl
theorem q695 : (Jvm.Cond.code ({ cls := "java/lang/StringUTF16", name := "compress", desc := "([BII)[B" } : Jvm.MethodName) prog_29_method_17_code (6 : Nat) (Option.some (Jvm.ClassFile.FieldType.array Jvm.ClassFile.FieldType.byte))) ∈ lw_all := lw_g (lw_at lw_m3 151 rfl) rfl
theorem q696 : (Jvm.Cond.methodLink "java/lang/StringUTF16" (123 : Nat) ({ cls := "java/lang/StringUTF16", name := "compress", desc := "([BI[BII)I" } : Jvm.MethodName)) ∈ lw_all := lw_g (lw_at lw_m3 152 rfl) rfl
theorem q697 : (Jvm.Cond.static ({ cls := "java/lang/StringUTF16", name := "compress", desc := "([BI[BII)I" } : Jvm.MethodName)) ∈ lw_all := lw_g (lw_at lw_m3 153 rfl) rfl
theorem q698 : (Jvm.Cond.code ({ cls := "java/lang/StringUTF16", name := "compress", desc := "([BI[BII)I" } : Jvm.MethodName) prog_29_method_22_code (7 : Nat) (Option.some Jvm.ClassFile.FieldType.int)) ∈ lw_all := lw_g (lw_at lw_m3 154 rfl) rfl
theorem q699 : (Jvm.Cond.methodLink "java/lang/StringUTF16" (71 : Nat) ({ cls := "java/lang/StringUTF16", name := "getChar", desc := "([BI)C" } : Jvm.MethodName)) ∈ lw_all := lw_g (lw_at lw_m3 155 rfl) rfl
theorem q700 : (Jvm.Cond.static ({ cls := "java/lang/StringUTF16", name := "getChar", desc := "([BI)C" } : Jvm.MethodName)) ∈ lw_all := lw_g (lw_at lw_m3 156 rfl) rfl
theorem q701 : (Jvm.Cond.code ({ cls := "java/lang/StringUTF16", name := "getChar", desc := "([BI)C" } : Jvm.MethodName) prog_29_method_5_code (2 : Nat) (Option.some Jvm.ClassFile.FieldType.char)) ∈ lw_all := lw_g (lw_at lw_m3 157 rfl) rfl
theorem q702 : (Jvm.Cond.methodLink "java/lang/StringUTF16" (126 : Nat) ({ cls := "java/util/Arrays", name := "copyOfRange", desc := "([BII)[B" } : Jvm.MethodName)) ∈ lw_all := lw_g (lw_at lw_m3 158 rfl) rfl
theorem q704 : (Jvm.Cond.static ({ cls := "java/lang/StringUTF16", name := "coderFromArrayLen", desc := "([BI)B" } : Jvm.MethodName)) ∈ lw_all := lw_g (lw_at lw_m3 160 rfl) rfl
theorem q705 : (Jvm.Cond.code ({ cls := "java/lang/StringUTF16", name := "coderFromArrayLen", desc := "([BI)B" } : Jvm.MethodName) prog_29_method_15_code (2 : Nat) (Option.some Jvm.ClassFile.FieldType.byte)) ∈ lw_all := lw_g (lw_at lw_m3 161 rfl) rfl
theorem q747 : (Jvm.Cond.static ({ cls := "java/lang/StringUTF16", name := "charAt", desc := "([BI)C" } : Jvm.MethodName)) ∈ lw_all := lw_g (lw_at lw_m3 203 rfl) rfl
theorem q748 : (Jvm.Cond.code ({ cls := "java/lang/StringUTF16", name := "charAt", desc := "([BI)C" } : Jvm.MethodName) prog_29_method_83_code (2 : Nat) (Option.some Jvm.ClassFile.FieldType.char)) ∈ lw_all := lw_g (lw_at lw_m3 204 rfl) rfl
theorem q749 : (Jvm.Cond.methodLink "java/lang/StringUTF16" (67 : Nat) ({ cls := "java/lang/StringUTF16", name := "checkIndex", desc := "(I[B)V" } : Jvm.MethodName)) ∈ lw_all := lw_g (lw_at lw_m3 205 rfl) rfl
theorem q750 : (Jvm.Cond.static ({ cls := "java/lang/StringUTF16", name := "checkIndex", desc := "(I[B)V" } : Jvm.MethodName)) ∈ lw_all := lw_g (lw_at lw_m3 206 rfl) rfl
theorem q751 : (Jvm.Cond.code ({ cls := "java/lang/StringUTF16", name := "checkIndex", desc := "(I[B)V" } : Jvm.MethodName) prog_29_method_91_code (2 : Nat) (Option.none : Option Jvm.ClassFile.FieldType)) ∈ lw_all := lw_g (lw_at lw_m3 207 rfl) rfl
theorem q752 : (Jvm.Cond.methodLink "java/lang/StringUTF16" (414 : Nat) ({ cls := "java/lang/String", name := "checkIndex", desc := "(II)V" } : Jvm.MethodName)) ∈ lw_all := lw_g (lw_at lw_m3 208 rfl) rfl

/-! java/lang/StringLatin1 -/
def RJ22 : String := "java/lang/StringLatin1"
abbrev cJ22_inflate : ByteArray := prog_28_method_50_code
def yJ22_inflate : MethodName := ⟨RJ22, "inflate", "([BI[BII)V"⟩
abbrev cJ22_charAt : ByteArray := prog_28_method_2_code
def yJ22_charAt : MethodName := ⟨RJ22, "charAt", "([BI)C"⟩
theorem q99 : (Jvm.Cond.initialized "java/lang/StringLatin1") ∈ lw_all := lw_g (lw_at lw_m1 35 rfl) rfl
theorem q537 : (Jvm.Cond.static ({ cls := "java/lang/StringLatin1", name := "inflate", desc := "([BI[BII)V" } : Jvm.MethodName)) ∈ lw_all := lw_g (lw_at lw_m2 233 rfl) rfl
theorem q538 : (Jvm.Cond.code ({ cls := "java/lang/StringLatin1", name := "inflate", desc := "([BI[BII)V" } : Jvm.MethodName) prog_28_method_50_code (5 : Nat) (Option.none : Option Jvm.ClassFile.FieldType)) ∈ lw_all := lw_g (lw_at lw_m2 234 rfl) rfl
theorem q539 : (Jvm.Cond.methodLink "java/lang/StringLatin1" (240 : Nat) ({ cls := "java/lang/StringUTF16", name := "inflate", desc := "([BI[BII)V" } : Jvm.MethodName)) ∈ lw_all := lw_g (lw_at lw_m2 235 rfl) rfl
theorem q738 : (Jvm.Cond.static ({ cls := "java/lang/StringLatin1", name := "charAt", desc := "([BI)C" } : Jvm.MethodName)) ∈ lw_all := lw_g (lw_at lw_m3 194 rfl) rfl
theorem q739 : (Jvm.Cond.code ({ cls := "java/lang/StringLatin1", name := "charAt", desc := "([BI)C" } : Jvm.MethodName) prog_28_method_2_code (2 : Nat) (Option.some Jvm.ClassFile.FieldType.char)) ∈ lw_all := lw_g (lw_at lw_m3 195 rfl) rfl
theorem q740 : (Jvm.Cond.methodLink "java/lang/StringLatin1" (9 : Nat) ({ cls := "java/lang/String", name := "checkIndex", desc := "(II)V" } : Jvm.MethodName)) ∈ lw_all := lw_g (lw_at lw_m3 196 rfl) rfl

/-! java/lang/Integer -/
def RJ23 : String := "java/lang/Integer"
abbrev cJ23_stringSize : ByteArray := prog_22_method_13_code
def yJ23_stringSize : MethodName := ⟨RJ23, "stringSize", "(I)I"⟩
abbrev cJ23_getChars : ByteArray := prog_22_method_12_code
def yJ23_getChars : MethodName := ⟨RJ23, "getChars", "(II[B)I"⟩
theorem q100 : (Jvm.Cond.initialized "java/lang/Integer") ∈ lw_all := lw_g (lw_at lw_m1 36 rfl) rfl
theorem q565 : (Jvm.Cond.static ({ cls := "java/lang/Integer", name := "stringSize", desc := "(I)I" } : Jvm.MethodName)) ∈ lw_all := lw_g (lw_at lw_m3 21 rfl) rfl
theorem q566 : (Jvm.Cond.code ({ cls := "java/lang/Integer", name := "stringSize", desc := "(I)I" } : Jvm.MethodName) prog_22_method_13_code (4 : Nat) (Option.some Jvm.ClassFile.FieldType.int)) ∈ lw_all := lw_g (lw_at lw_m3 22 rfl) rfl
theorem q568 : (Jvm.Cond.static ({ cls := "java/lang/Integer", name := "getChars", desc := "(II[B)I" } : Jvm.MethodName)) ∈ lw_all := lw_g (lw_at lw_m3 24 rfl) rfl
theorem q569 : (Jvm.Cond.code ({ cls := "java/lang/Integer", name := "getChars", desc := "(II[B)I" } : Jvm.MethodName) prog_22_method_12_code (7 : Nat) (Option.some Jvm.ClassFile.FieldType.int)) ∈ lw_all := lw_g (lw_at lw_m3 25 rfl) rfl
theorem q570 : (Jvm.Cond.fieldLink "java/lang/Integer" (83 : Nat) "java/lang/Integer" "DigitOnes" "[B") ∈ lw_all := lw_g (lw_at lw_m3 26 rfl) rfl
theorem q571 : (Jvm.Cond.laysStatic "java/lang/Integer" "DigitOnes" "[B") ∈ lw_tbl := lw_at lw_m3 27 rfl
theorem q572 : (Jvm.Cond.fieldLink "java/lang/Integer" (87 : Nat) "java/lang/Integer" "DigitTens" "[B") ∈ lw_all := lw_g (lw_at lw_m3 28 rfl) rfl
theorem q573 : (Jvm.Cond.laysStatic "java/lang/Integer" "DigitTens" "[B") ∈ lw_tbl := lw_at lw_m3 29 rfl

/-! java/lang/Object -/
def RJ24 : String := "java/lang/Object"
abbrev cJ24_init : ByteArray := object_method_1_code
def yJ24_init : MethodName := ⟨RJ24, "<init>", "()V"⟩
theorem q107 : (Jvm.Cond.instanceMethod ({ cls := "java/lang/Object", name := "<init>", desc := "()V" } : Jvm.MethodName)) ∈ lw_all := lw_g (lw_at lw_m1 43 rfl) rfl
theorem q108 : (Jvm.Cond.code ({ cls := "java/lang/Object", name := "<init>", desc := "()V" } : Jvm.MethodName) object_method_1_code (1 : Nat) (Option.none : Option Jvm.ClassFile.FieldType)) ∈ lw_all := lw_g (lw_at lw_m1 44 rfl) rfl
theorem q472 : (Jvm.Cond.native ({ cls := "java/lang/Object", name := "clone", desc := "()Ljava/lang/Object;" } : Jvm.MethodName)) ∈ lw_all := lw_g (lw_at lw_m2 168 rfl) rfl
theorem q473 : (Jvm.Cond.instanceMethod ({ cls := "java/lang/Object", name := "clone", desc := "()Ljava/lang/Object;" } : Jvm.MethodName)) ∈ lw_all := lw_g (lw_at lw_m2 169 rfl) rfl
theorem q858 : (Jvm.Cond.instanceMethod ({ cls := "java/lang/Object", name := "getClass", desc := "()Ljava/lang/Class;" } : Jvm.MethodName)) ∈ lw_all := lw_g (lw_at lw_m4 74 rfl) rfl
theorem q859 : (Jvm.Cond.sameMethod "java/lang/Object" "java/lang/Object" "getClass" "()Ljava/lang/Class;") ∈ lw_all := lw_g (lw_at lw_m4 75 rfl) rfl
theorem q880 : (Jvm.Cond.native ({ cls := "java/lang/Object", name := "getClass", desc := "()Ljava/lang/Class;" } : Jvm.MethodName)) ∈ lw_all := lw_g (lw_at lw_m4 96 rfl) rfl
theorem q1665 : (Jvm.Cond.declares ({ cls := "java/lang/Object", name := "getClass", desc := "()Ljava/lang/Class;" } : Jvm.MethodName)) ∈ lw_tbl := lw_at lw_m7 161 rfl

abbrev cL_law : ByteArray := code
theorem q141 : (Jvm.Cond.arrayClass Jvm.ClassFile.FieldType.char) ∈ lw_all := lw_g (lw_at lw_m1 77 rfl) rfl
theorem q168 : (Jvm.Cond.arrayOver (Jvm.ClassFile.FieldType.object "TraceWarden$Part")) ∈ lw_tbl := lw_at lw_m1 104 rfl
theorem q170 : (Jvm.Cond.arrayOver (Jvm.ClassFile.FieldType.object "TraceWarden$Row")) ∈ lw_tbl := lw_at lw_m1 106 rfl
theorem q188 : (Jvm.Cond.arrayClass Jvm.ClassFile.FieldType.int) ∈ lw_all := lw_g (lw_at lw_m1 124 rfl) rfl
theorem q189 : (Jvm.Cond.arrayClass Jvm.ClassFile.FieldType.boolean) ∈ lw_all := lw_g (lw_at lw_m1 125 rfl) rfl
theorem q228 : (Jvm.Cond.arrayOver (Jvm.ClassFile.FieldType.object "TraceWarden$State")) ∈ lw_tbl := lw_at lw_m1 164 rfl
theorem q287 : (Jvm.Cond.arrayOver (Jvm.ClassFile.FieldType.object "TraceWarden$Gate")) ∈ lw_tbl := lw_at lw_m1 223 rfl
theorem q376 : (Jvm.Cond.arrayClass Jvm.ClassFile.FieldType.byte) ∈ lw_all := lw_g (lw_at lw_m2 72 rfl) rfl
theorem q885 : (Jvm.Cond.arrayOver (Jvm.ClassFile.FieldType.object "java/lang/Object")) ∈ lw_tbl := lw_at lw_m4 101 rfl
theorem q1406 : (Jvm.Cond.arrayClass Jvm.ClassFile.FieldType.long) ∈ lw_all := lw_g (lw_at lw_m6 142 rfl) rfl

theorem q85 : (Jvm.Cond.initialized "java/lang/System") ∈ lw_all := lw_g (lw_at lw_m1 21 rfl) rfl
theorem q481 : (Jvm.Cond.static ({ cls := "java/lang/System", name := "arraycopy", desc := "(Ljava/lang/Object;ILjava/lang/Object;II)V" } : Jvm.MethodName)) ∈ lw_all := lw_g (lw_at lw_m2 177 rfl) rfl
theorem q482 : (Jvm.Cond.native ({ cls := "java/lang/System", name := "arraycopy", desc := "(Ljava/lang/Object;ILjava/lang/Object;II)V" } : Jvm.MethodName)) ∈ lw_all := lw_g (lw_at lw_m2 178 rfl) rfl

theorem q89 : (Jvm.Cond.initialized "TraceWarden$Kind") ∈ lw_all := lw_g (lw_at lw_m1 25 rfl) rfl
theorem q864 : (Jvm.Cond.selects "TraceWarden$Kind" ({ cls := "java/lang/Object", name := "getClass", desc := "()Ljava/lang/Class;" } : Jvm.MethodName) ({ cls := "java/lang/Object", name := "getClass", desc := "()Ljava/lang/Class;" } : Jvm.MethodName)) ∈ lw_all := lw_g (lw_at lw_m4 80 rfl) rfl
theorem q902 : (Jvm.Cond.laysStatic "TraceWarden$Kind" "ALWAYS" "LTraceWarden$Kind;") ∈ lw_tbl := lw_at lw_m4 118 rfl
theorem q904 : (Jvm.Cond.laysStatic "TraceWarden$Kind" "NEXT" "LTraceWarden$Kind;") ∈ lw_tbl := lw_at lw_m4 120 rfl
theorem q920 : (Jvm.Cond.laysStatic "TraceWarden$Kind" "CHOICE" "LTraceWarden$Kind;") ∈ lw_tbl := lw_at lw_m4 136 rfl
theorem q932 : (Jvm.Cond.laysStatic "TraceWarden$Kind" "PLACE" "LTraceWarden$Kind;") ∈ lw_tbl := lw_at lw_m4 148 rfl
theorem q934 : (Jvm.Cond.laysStatic "TraceWarden$Kind" "MORE" "LTraceWarden$Kind;") ∈ lw_tbl := lw_at lw_m4 150 rfl
theorem q936 : (Jvm.Cond.laysStatic "TraceWarden$Kind" "TIMES" "LTraceWarden$Kind;") ∈ lw_tbl := lw_at lw_m4 152 rfl
theorem q942 : (Jvm.Cond.laysStatic "TraceWarden$Kind" "THEN" "LTraceWarden$Kind;") ∈ lw_tbl := lw_at lw_m4 158 rfl
theorem q944 : (Jvm.Cond.laysStatic "TraceWarden$Kind" "OVERLAP" "LTraceWarden$Kind;") ∈ lw_tbl := lw_at lw_m4 160 rfl
theorem q946 : (Jvm.Cond.laysStatic "TraceWarden$Kind" "BEHIND" "LTraceWarden$Kind;") ∈ lw_tbl := lw_at lw_m4 162 rfl
theorem q948 : (Jvm.Cond.laysStatic "TraceWarden$Kind" "BOTH" "LTraceWarden$Kind;") ∈ lw_tbl := lw_at lw_m4 164 rfl
theorem q950 : (Jvm.Cond.laysStatic "TraceWarden$Kind" "EITHER" "LTraceWarden$Kind;") ∈ lw_tbl := lw_at lw_m4 166 rfl
theorem q952 : (Jvm.Cond.laysStatic "TraceWarden$Kind" "UNTIL" "LTraceWarden$Kind;") ∈ lw_tbl := lw_at lw_m4 168 rfl
theorem q958 : (Jvm.Cond.laysStatic "TraceWarden$Kind" "TRUTH" "LTraceWarden$Kind;") ∈ lw_tbl := lw_at lw_m4 174 rfl
theorem q990 : (Jvm.Cond.sameMethod "TraceWarden$Kind" "java/lang/Enum" "ordinal" "()I") ∈ lw_all := lw_g (lw_at lw_m4 206 rfl) rfl
theorem q992 : (Jvm.Cond.selects "TraceWarden$Kind" ({ cls := "TraceWarden$Kind", name := "ordinal", desc := "()I" } : Jvm.MethodName) ({ cls := "java/lang/Enum", name := "ordinal", desc := "()I" } : Jvm.MethodName)) ∈ lw_all := lw_g (lw_at lw_m4 208 rfl) rfl
theorem q1682 : (Jvm.Cond.castable "TraceWarden$Kind" "java/lang/Object") ∈ lw_tbl := lw_at lw_m7 178 rfl

theorem q471 : (Jvm.Cond.sameMethod "[B" "java/lang/Object" "clone" "()Ljava/lang/Object;") ∈ lw_all := lw_g (lw_at lw_m2 167 rfl) rfl
theorem q474 : (Jvm.Cond.selects "[B" ({ cls := "[B", name := "clone", desc := "()Ljava/lang/Object;" } : Jvm.MethodName) ({ cls := "java/lang/Object", name := "clone", desc := "()Ljava/lang/Object;" } : Jvm.MethodName)) ∈ lw_all := lw_g (lw_at lw_m2 170 rfl) rfl
theorem q475 : (Jvm.Cond.castable "[B" "java/lang/Cloneable") ∈ lw_tbl := lw_at lw_m2 171 rfl
theorem q1690 : (Jvm.Cond.castable "[B" "java/lang/Object") ∈ lw_tbl := lw_at lw_m7 186 rfl

theorem q1663 : (Jvm.Cond.sameMethod "[Ljava/lang/Object;" "java/lang/Object" "getClass" "()Ljava/lang/Class;") ∈ lw_all := lw_g (lw_at lw_m7 159 rfl) rfl
theorem q1664 : (Jvm.Cond.selects "[Ljava/lang/Object;" ({ cls := "java/lang/Object", name := "getClass", desc := "()Ljava/lang/Class;" } : Jvm.MethodName) ({ cls := "java/lang/Object", name := "getClass", desc := "()Ljava/lang/Class;" } : Jvm.MethodName)) ∈ lw_all := lw_g (lw_at lw_m7 160 rfl) rfl
theorem q1691 : (Jvm.Cond.castable "[Ljava/lang/Object;" "java/lang/Object") ∈ lw_tbl := lw_at lw_m7 187 rfl

theorem q1683 : (Jvm.Cond.castable "[C" "java/lang/Object") ∈ lw_tbl := lw_at lw_m7 179 rfl

theorem q1684 : (Jvm.Cond.castable "[LTraceWarden$Part;" "java/lang/Object") ∈ lw_tbl := lw_at lw_m7 180 rfl

theorem q1685 : (Jvm.Cond.castable "[LTraceWarden$Row;" "java/lang/Object") ∈ lw_tbl := lw_at lw_m7 181 rfl

theorem q1686 : (Jvm.Cond.castable "[I" "java/lang/Object") ∈ lw_tbl := lw_at lw_m7 182 rfl

theorem q1687 : (Jvm.Cond.castable "[Z" "java/lang/Object") ∈ lw_tbl := lw_at lw_m7 183 rfl

theorem q1688 : (Jvm.Cond.castable "[LTraceWarden$State;" "java/lang/Object") ∈ lw_tbl := lw_at lw_m7 184 rfl

theorem q1689 : (Jvm.Cond.castable "[LTraceWarden$Gate;" "java/lang/Object") ∈ lw_tbl := lw_at lw_m7 185 rfl

theorem q1692 : (Jvm.Cond.castable "[J" "java/lang/Object") ∈ lw_tbl := lw_at lw_m7 188 rfl

