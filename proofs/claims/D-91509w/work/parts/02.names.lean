/-! WindGas -/
set_option maxRecDepth 100000
def RX0 : String := "WindGas"
def TX0 : u_T := fun k => match k with
  | 0 => ("WindGas", "now", "I", false)
  | 1 => ("WindGas", "wind", "LWindGas$Tellings;", true)
  | 2 => ("WindGas", "price", "LWindGas$Tellings;", true)
  | 3 => ("WindGas", "rain", "LWindGas$Tellings;", true)
  | 4 => ("WindGas", "rules", "Ljava/util/ArrayList;", true)
  | 5 => ("WindGas", "bare", "LWindGas$Rules;", true)
  | 6 => ("WindGas", "tape", "[B", true)
  | 7 => ("WindGas", "taped", "I", false)
  | 8 => ("WindGas", "fault", "I", false)
  | 9 => ("WindGas", "limit", "I", false)
  | 10 => ("WindGas", "point", "I", false)
  | 11 => ("WindGas", "from", "I", false)
  | 12 => ("WindGas", "value", "I", false)
  | 13 => ("WindGas", "open", "I", false)
  | 14 => ("WindGas", "token", "C", false)
  | 15 => ("WindGas", "word", "Ljava/lang/String;", false)
  | 16 => ("WindGas", "tubes", "LWindGas$Store;", true)
  | 17 => ("WindGas", "cavern", "LWindGas$Store;", true)
  | 18 => ("WindGas", "stacks", "Ljava/util/ArrayList;", true)
  | 19 => ("WindGas", "tankRoom", "I", false)
  | 20 => ("WindGas", "tankHas", "I", false)
  | 21 => ("WindGas", "blew", "J", false)
  | 22 => ("WindGas", "taken", "J", false)
  | 23 => ("WindGas", "sold", "J", false)
  | 24 => ("WindGas", "unsold", "J", false)
  | 25 => ("WindGas", "made", "J", false)
  | 26 => ("WindGas", "vented", "J", false)
  | 27 => ("WindGas", "drunk", "J", false)
  | 28 => ("WindGas", "noRoom", "J", false)
  | 29 => ("WindGas", "coins", "J", false)
  | 30 => ("WindGas", "storedThen", "[I", true)
  | 31 => ("WindGas", "waterThen", "[I", true)
  | 32 => ("WindGas", "runningThen", "[I", true)
  | 33 => ("WindGas", "asks", "[J", true)
  | 34 => ("WindGas", "order", "[I", true)
  | 35 => ("WindGas", "gas", "I", false)
  | 36 => ("WindGas", "foul", "I", false)
  | 37 => ("WindGas", "trips", "Ljava/util/ArrayList;", true)
  | 38 => ("WindGas", "papers", "Ljava/util/ArrayList;", true)
  | 39 => ("WindGas", "places", "Ljava/util/ArrayList;", true)
  | 40 => ("WindGas", "fewest", "[I", true)
  | _ => ("WindGas", "gives", "[I", true)
def tyX0 : Nat → FieldType := fun k => match k with
  | 0 => .int
  | 1 => .object "WindGas$Tellings"
  | 2 => .object "WindGas$Tellings"
  | 3 => .object "WindGas$Tellings"
  | 4 => .object "java/util/ArrayList"
  | 5 => .object "WindGas$Rules"
  | 6 => .array .byte
  | 7 => .int
  | 8 => .int
  | 9 => .int
  | 10 => .int
  | 11 => .int
  | 12 => .int
  | 13 => .int
  | 14 => .char
  | 15 => .object "java/lang/String"
  | 16 => .object "WindGas$Store"
  | 17 => .object "WindGas$Store"
  | 18 => .object "java/util/ArrayList"
  | 19 => .int
  | 20 => .int
  | 21 => .long
  | 22 => .long
  | 23 => .long
  | 24 => .long
  | 25 => .long
  | 26 => .long
  | 27 => .long
  | 28 => .long
  | 29 => .long
  | 30 => .array .int
  | 31 => .array .int
  | 32 => .array .int
  | 33 => .array .long
  | 34 => .array .int
  | 35 => .int
  | 36 => .int
  | 37 => .object "java/util/ArrayList"
  | 38 => .object "java/util/ArrayList"
  | 39 => .object "java/util/ArrayList"
  | 40 => .array .int
  | _ => .array .int
abbrev wsX00 : List Cond := u_ws RX0 TX0 42
set_option maxRecDepth 100000 in
theorem nmX0 : ∀ a, a < 42 → ∀ b, b < 42 → a ≠ b → (TX0 a).2.1 ≠ (TX0 b).2.1 := by decide +kernel
set_option maxRecDepth 100000 in
theorem tyX0_ok : ∀ k, k < 42 → parseFieldDescriptor (TX0 k).2.2.1 = some (tyX0 k) := by decide +kernel
abbrev cX0_init : ByteArray := prog_1_method_2_code
def yX0_init : MethodName := ⟨RX0, "<init>", "()V"⟩
abbrev cX0_tell : ByteArray := prog_1_method_5_code
def yX0_tell : MethodName := ⟨RX0, "tell", "(IIII)Z"⟩
abbrev cX0_isIn : ByteArray := prog_1_method_1_code
def yX0_isIn : MethodName := ⟨RX0, "isIn", "(JJJ)Z"⟩
abbrev cX0_isTen : ByteArray := prog_1_method_4_code
def yX0_isTen : MethodName := ⟨RX0, "isTen", "(I)Z"⟩
abbrev cX0_tellings : ByteArray := prog_1_method_3_code
def yX0_tellings : MethodName := ⟨RX0, "tellings", "(I)LWindGas$Tellings;"⟩
abbrev cX0_said : ByteArray := prog_1_method_6_code
def yX0_said : MethodName := ⟨RX0, "said", "(II)I"⟩
abbrev cX0_law : ByteArray := prog_1_method_9_code
def yX0_law : MethodName := ⟨RX0, "law", "(II)I"⟩
abbrev cX0_at : ByteArray := prog_1_method_8_code
def yX0_at : MethodName := ⟨RX0, "at", "(I)LWindGas$Rules;"⟩
abbrev cX0_numberAt : ByteArray := prog_1_method_7_code
def yX0_numberAt : MethodName := ⟨RX0, "numberAt", "(I)I"⟩
abbrev cX0_feed : ByteArray := prog_1_method_10_code
def yX0_feed : MethodName := ⟨RX0, "feed", "(IIIII)I"⟩
abbrev cX0_tapes : ByteArray := prog_1_method_11_code
def yX0_tapes : MethodName := ⟨RX0, "tapes", "([I)I"⟩
abbrev cX0_rules : ByteArray := prog_1_method_29_code
def yX0_rules : MethodName := ⟨RX0, "rules", "(I)I"⟩
abbrev cX0_next : ByteArray := prog_1_method_16_code
def yX0_next : MethodName := ⟨RX0, "next", "()V"⟩
abbrev cX0_here : ByteArray := prog_1_method_12_code
def yX0_here : MethodName := ⟨RX0, "here", "(I)I"⟩
abbrev cX0_isLetter : ByteArray := prog_1_method_13_code
def yX0_isLetter : MethodName := ⟨RX0, "isLetter", "(I)Z"⟩
abbrev cX0_isDigit : ByteArray := prog_1_method_14_code
def yX0_isDigit : MethodName := ⟨RX0, "isDigit", "(I)Z"⟩
abbrev cX0_isSign : ByteArray := prog_1_method_15_code
def yX0_isSign : MethodName := ⟨RX0, "isSign", "(I)Z"⟩
abbrev cX0_statement : ByteArray := prog_1_method_28_code
def yX0_statement : MethodName := ⟨RX0, "statement", "(LWindGas$Rules;)V"⟩
abbrev cX0_any : ByteArray := prog_1_method_20_code
def yX0_any : MethodName := ⟨RX0, "any", "()I"⟩
abbrev cX0_number : ByteArray := prog_1_method_19_code
def yX0_number : MethodName := ⟨RX0, "number", "(II)I"⟩
abbrev cX0_must : ByteArray := prog_1_method_17_code
def yX0_must : MethodName := ⟨RX0, "must", "(Z)V"⟩
abbrev cX0_oneOf : ByteArray := prog_1_method_21_code
def yX0_oneOf : MethodName := ⟨RX0, "oneOf", "([Ljava/lang/String;)I"⟩
abbrev cX0_isWord : ByteArray := prog_1_method_18_code
def yX0_isWord : MethodName := ⟨RX0, "isWord", "(Ljava/lang/String;)Z"⟩
abbrev cX0_condition : ByteArray := prog_1_method_27_code
def yX0_condition : MethodName := ⟨RX0, "condition", "()LWindGas$Cond;"⟩
abbrev cX0_anyOf : ByteArray := prog_1_method_26_code
def yX0_anyOf : MethodName := ⟨RX0, "anyOf", "()LWindGas$Cond;"⟩
abbrev cX0_allOf : ByteArray := prog_1_method_25_code
def yX0_allOf : MethodName := ⟨RX0, "allOf", "()LWindGas$Cond;"⟩
abbrev cX0_one : ByteArray := prog_1_method_24_code
def yX0_one : MethodName := ⟨RX0, "one", "()LWindGas$Cond;"⟩
abbrev cX0_opens : ByteArray := prog_1_method_23_code
def yX0_opens : MethodName := ⟨RX0, "opens", "()V"⟩
abbrev cX0_kind : ByteArray := prog_1_method_22_code
def yX0_kind : MethodName := ⟨RX0, "kind", "()I"⟩
abbrev cX0_fault : ByteArray := prog_1_method_30_code
def yX0_fault : MethodName := ⟨RX0, "fault", "()I"⟩
abbrev cX0_store : ByteArray := prog_1_method_32_code
def yX0_store : MethodName := ⟨RX0, "store", "(IIII)Z"⟩
abbrev cX0_storeAt : ByteArray := prog_1_method_31_code
def yX0_storeAt : MethodName := ⟨RX0, "storeAt", "(I)LWindGas$Store;"⟩
abbrev cX0_storeOf : ByteArray := prog_1_method_33_code
def yX0_storeOf : MethodName := ⟨RX0, "storeOf", "(II)J"⟩
abbrev cX0_lot : ByteArray := prog_1_method_34_code
def yX0_lot : MethodName := ⟨RX0, "lot", "(III)I"⟩
abbrev cX0_meter : ByteArray := prog_1_method_35_code
def yX0_meter : MethodName := ⟨RX0, "meter", "(III)I"⟩
abbrev cX0_stack : ByteArray := prog_1_method_36_code
def yX0_stack : MethodName := ⟨RX0, "stack", "(III)I"⟩
abbrev cX0_tank : ByteArray := prog_1_method_37_code
def yX0_tank : MethodName := ⟨RX0, "tank", "(II)Z"⟩
abbrev cX0_pass : ByteArray := prog_1_method_46_code
def yX0_pass : MethodName := ⟨RX0, "pass", "(I)I"⟩
abbrev cX0_ten : ByteArray := prog_1_method_45_code
def yX0_ten : MethodName := ⟨RX0, "ten", "()V"⟩
abbrev cX0_runs : ByteArray := prog_1_method_38_code
def yX0_runs : MethodName := ⟨RX0, "runs", "()I"⟩
abbrev cX0_asked : ByteArray := prog_1_method_39_code
def yX0_asked : MethodName := ⟨RX0, "asked", "(IJJJ)V"⟩
abbrev cX0_splits : ByteArray := prog_1_method_43_code
def yX0_splits : MethodName := ⟨RX0, "splits", "(LWindGas$Rules;I)I"⟩
abbrev cX0_orders : ByteArray := prog_1_method_40_code
def yX0_orders : MethodName := ⟨RX0, "orders", "(LWindGas$Rules;)V"⟩
abbrev cX0_isAhead : ByteArray := prog_1_method_41_code
def yX0_isAhead : MethodName := ⟨RX0, "isAhead", "(LWindGas$Rules;LWindGas$Stack;LWindGas$Stack;)Z"⟩
abbrev cX0_works : ByteArray := prog_1_method_42_code
def yX0_works : MethodName := ⟨RX0, "works", "(LWindGas$Stack;LWindGas$Rules;I)I"⟩
abbrev cX0_fills : ByteArray := prog_1_method_44_code
def yX0_fills : MethodName := ⟨RX0, "fills", "(LWindGas$Store;I)V"⟩
abbrev cX0_tries : ByteArray := prog_1_method_49_code
def yX0_tries : MethodName := ⟨RX0, "tries", "(LWindGas$Trip;LWindGas$Rules;)V"⟩
abbrev cX0_stackOf : ByteArray := prog_1_method_47_code
def yX0_stackOf : MethodName := ⟨RX0, "stackOf", "(II)J"⟩
abbrev cX0_trip : ByteArray := prog_1_method_48_code
def yX0_trip : MethodName := ⟨RX0, "trip", "(III)I"⟩
abbrev cX0_green : ByteArray := prog_1_method_53_code
def yX0_green : MethodName := ⟨RX0, "green", "(I)I"⟩
abbrev cX0_isHour : ByteArray := prog_1_method_51_code
def yX0_isHour : MethodName := ⟨RX0, "isHour", "(I)Z"⟩
abbrev cX0_isGreen : ByteArray := prog_1_method_52_code
def yX0_isGreen : MethodName := ⟨RX0, "isGreen", "(I)Z"⟩
abbrev cX0_tripOf : ByteArray := prog_1_method_56_code
def yX0_tripOf : MethodName := ⟨RX0, "tripOf", "(II)I"⟩
abbrev cX0_tripAt : ByteArray := prog_1_method_50_code
def yX0_tripAt : MethodName := ⟨RX0, "tripAt", "(I)LWindGas$Trip;"⟩
abbrev cX0_proved : ByteArray := prog_1_method_54_code
def yX0_proved : MethodName := ⟨RX0, "proved", "(LWindGas$Trip;)I"⟩
abbrev cX0_hoursOf : ByteArray := prog_1_method_55_code
def yX0_hoursOf : MethodName := ⟨RX0, "hoursOf", "(LWindGas$Trip;)I"⟩
abbrev cX0_drank : ByteArray := prog_1_method_57_code
def yX0_drank : MethodName := ⟨RX0, "drank", "(II)I"⟩
abbrev cX0_paper : ByteArray := prog_1_method_58_code
def yX0_paper : MethodName := ⟨RX0, "paper", "(III)I"⟩
abbrev cX0_paperOf : ByteArray := prog_1_method_60_code
def yX0_paperOf : MethodName := ⟨RX0, "paperOf", "(II)I"⟩
abbrev cX0_isValid : ByteArray := prog_1_method_59_code
def yX0_isValid : MethodName := ⟨RX0, "isValid", "(I)Z"⟩
abbrev cX0_place : ByteArray := prog_1_method_61_code
def yX0_place : MethodName := ⟨RX0, "place", "(III)I"⟩
abbrev cX0_apart : ByteArray := prog_1_method_63_code
def yX0_apart : MethodName := ⟨RX0, "apart", "(I)I"⟩
abbrev cX0_isPair : ByteArray := prog_1_method_62_code
def yX0_isPair : MethodName := ⟨RX0, "isPair", "(LWindGas$Apart;LWindGas$Place;LWindGas$Place;)Z"⟩
abbrev cX0_plan : ByteArray := prog_1_method_67_code
def yX0_plan : MethodName := ⟨RX0, "plan", "(III)I"⟩
abbrev cX0_hundreds : ByteArray := prog_1_method_64_code
def yX0_hundreds : MethodName := ⟨RX0, "hundreds", "(IILWindGas$Rules;)I"⟩
abbrev cX0_costOf : ByteArray := prog_1_method_65_code
def yX0_costOf : MethodName := ⟨RX0, "costOf", "(IIII)I"⟩
abbrev cX0_running : ByteArray := prog_1_method_66_code
def yX0_running : MethodName := ⟨RX0, "running", "()I"⟩
abbrev cX0_sum : ByteArray := prog_1_method_68_code
def yX0_sum : MethodName := ⟨RX0, "sum", "(I)J"⟩
abbrev cX0_count : ByteArray := prog_1_method_72_code
def yX0_count : MethodName := ⟨RX0, "count", "(I)I"⟩
abbrev cX0_leftMany : ByteArray := prog_1_method_69_code
def yX0_leftMany : MethodName := ⟨RX0, "leftMany", "()I"⟩
abbrev cX0_validMany : ByteArray := prog_1_method_70_code
def yX0_validMany : MethodName := ⟨RX0, "validMany", "()I"⟩
abbrev cX0_greenMany : ByteArray := prog_1_method_71_code
def yX0_greenMany : MethodName := ⟨RX0, "greenMany", "()I"⟩
theorem q84 : (Jvm.Cond.initialized "WindGas") ∈ lw_all := lw_g (lw_at lw_m1 1 rfl) rfl
theorem q121 : (Jvm.Cond.instantiable "WindGas" (42 : Nat)) ∈ lw_all := lw_g (lw_at lw_m1 38 rfl) rfl
theorem q123 : (Jvm.Cond.instanceMethod ({ cls := "WindGas", name := "<init>", desc := "()V" } : Jvm.MethodName)) ∈ lw_all := lw_g (lw_at lw_m1 40 rfl) rfl
theorem q124 : (Jvm.Cond.code ({ cls := "WindGas", name := "<init>", desc := "()V" } : Jvm.MethodName) prog_1_method_2_code (1 : Nat) (Option.none : Option Jvm.ClassFile.FieldType)) ∈ lw_all := lw_g (lw_at lw_m1 41 rfl) rfl
theorem q125 : (Jvm.Cond.methodLink "WindGas" (3 : Nat) ({ cls := "java/lang/Object", name := "<init>", desc := "()V" } : Jvm.MethodName)) ∈ lw_all := lw_g (lw_at lw_m1 42 rfl) rfl
theorem q128 : (Jvm.Cond.classLink "WindGas" (9 : Nat) "WindGas$Tellings") ∈ lw_all := lw_g (lw_at lw_m1 45 rfl) rfl
theorem q130 : (Jvm.Cond.methodLink "WindGas" (11 : Nat) ({ cls := "WindGas$Tellings", name := "<init>", desc := "(II)V" } : Jvm.MethodName)) ∈ lw_all := lw_g (lw_at lw_m1 47 rfl) rfl
theorem q170 : (Jvm.Cond.classLink "WindGas" (24 : Nat) "java/util/ArrayList") ∈ lw_all := lw_g (lw_at lw_m1 87 rfl) rfl
theorem q171 : (Jvm.Cond.methodLink "WindGas" (26 : Nat) ({ cls := "java/util/ArrayList", name := "<init>", desc := "()V" } : Jvm.MethodName)) ∈ lw_all := lw_g (lw_at lw_m1 88 rfl) rfl
theorem q172 : (Jvm.Cond.classLink "WindGas" (31 : Nat) "WindGas$Rules") ∈ lw_all := lw_g (lw_at lw_m1 89 rfl) rfl
theorem q174 : (Jvm.Cond.methodLink "WindGas" (33 : Nat) ({ cls := "WindGas$Rules", name := "<init>", desc := "(I)V" } : Jvm.MethodName)) ∈ lw_all := lw_g (lw_at lw_m1 91 rfl) rfl
theorem q181 : (Jvm.Cond.fieldLinkNest "WindGas" (132 : Nat) "WindGas$Rules" "from" "I" "WindGas") ∈ lw_tbl := lw_at lw_m1 98 rfl
theorem q183 : (Jvm.Cond.fieldLinkNest "WindGas" (141 : Nat) "WindGas$Rules" "purity" "I" "WindGas") ∈ lw_tbl := lw_at lw_m1 100 rfl
theorem q185 : (Jvm.Cond.fieldLinkNest "WindGas" (144 : Nat) "WindGas$Rules" "storm" "I" "WindGas") ∈ lw_tbl := lw_at lw_m1 102 rfl
theorem q188 : (Jvm.Cond.fieldLinkNest "WindGas" (147 : Nat) "WindGas$Rules" "least" "I" "WindGas") ∈ lw_tbl := lw_at lw_m1 105 rfl
theorem q190 : (Jvm.Cond.fieldLinkNest "WindGas" (150 : Nat) "WindGas$Rules" "starts" "I" "WindGas") ∈ lw_tbl := lw_at lw_m1 107 rfl
theorem q192 : (Jvm.Cond.fieldLinkNest "WindGas" (153 : Nat) "WindGas$Rules" "cable" "I" "WindGas") ∈ lw_tbl := lw_at lw_m1 109 rfl
theorem q193 : (Jvm.Cond.fieldLinkNest "WindGas" (160 : Nat) "WindGas$Rules" "statements" "I" "WindGas") ∈ lw_tbl := lw_at lw_m1 110 rfl
theorem q194 : (Jvm.Cond.fieldLinkNest "WindGas" (156 : Nat) "WindGas$Rules" "isWorn" "Z" "WindGas") ∈ lw_tbl := lw_at lw_m1 111 rfl
theorem q196 : (Jvm.Cond.fieldLinkNest "WindGas" (331 : Nat) "WindGas$Rules" "greens" "Ljava/util/ArrayList;" "WindGas") ∈ lw_tbl := lw_at lw_m1 113 rfl
theorem q198 : (Jvm.Cond.fieldLinkNest "WindGas" (337 : Nat) "WindGas$Rules" "sells" "Ljava/util/ArrayList;" "WindGas") ∈ lw_tbl := lw_at lw_m1 115 rfl
theorem q200 : (Jvm.Cond.fieldLinkNest "WindGas" (343 : Nat) "WindGas$Rules" "aparts" "Ljava/util/ArrayList;" "WindGas") ∈ lw_tbl := lw_at lw_m1 117 rfl
theorem q224 : (Jvm.Cond.stringRef "WindGas" (48 : Nat) "") ∈ lw_tbl := lw_at lw_m1 141 rfl
theorem q225 : (Jvm.Cond.classLink "WindGas" (54 : Nat) "WindGas$Store") ∈ lw_all := lw_g (lw_at lw_m1 142 rfl) rfl
theorem q227 : (Jvm.Cond.methodLinkNest "WindGas" (56 : Nat) ({ cls := "WindGas$Store", name := "<init>", desc := "()V" } : Jvm.MethodName) "WindGas") ∈ lw_tbl := lw_at lw_m1 144 rfl
theorem q234 : (Jvm.Cond.fieldLinkNest "WindGas" (386 : Nat) "WindGas$Store" "lots" "Ljava/util/ArrayList;" "WindGas") ∈ lw_tbl := lw_at lw_m1 151 rfl
theorem q235 : (Jvm.Cond.fieldLinkNest "WindGas" (372 : Nat) "WindGas$Store" "room" "I" "WindGas") ∈ lw_tbl := lw_at lw_m1 152 rfl
theorem q237 : (Jvm.Cond.fieldLinkNest "WindGas" (375 : Nat) "WindGas$Store" "leak" "I" "WindGas") ∈ lw_tbl := lw_at lw_m1 154 rfl
theorem q238 : (Jvm.Cond.fieldLinkNest "WindGas" (378 : Nat) "WindGas$Store" "breath" "I" "WindGas") ∈ lw_tbl := lw_at lw_m1 155 rfl
theorem q240 : (Jvm.Cond.fieldLinkNest "WindGas" (365 : Nat) "WindGas$Store" "grams" "I" "WindGas") ∈ lw_tbl := lw_at lw_m1 157 rfl
theorem q241 : (Jvm.Cond.fieldLinkNest "WindGas" (495 : Nat) "WindGas$Store" "in" "I" "WindGas") ∈ lw_tbl := lw_at lw_m1 158 rfl
theorem q242 : (Jvm.Cond.fieldLinkNest "WindGas" (498 : Nat) "WindGas$Store" "out" "I" "WindGas") ∈ lw_tbl := lw_at lw_m1 159 rfl
theorem q244 : (Jvm.Cond.fieldLinkNest "WindGas" (389 : Nat) "WindGas$Store" "leaked" "J" "WindGas") ∈ lw_tbl := lw_at lw_m1 161 rfl
theorem q245 : (Jvm.Cond.fieldLinkNest "WindGas" (393 : Nat) "WindGas$Store" "lost" "J" "WindGas") ∈ lw_tbl := lw_at lw_m1 162 rfl
theorem q266 : (Jvm.Cond.fieldLink "WindGas" (351 : Nat) "WindGas" "now" "I") ∈ lw_all := lw_g (lw_at lw_m1 183 rfl) rfl
theorem q267 : (Jvm.Cond.fieldLink "WindGas" (14 : Nat) "WindGas" "wind" "LWindGas$Tellings;") ∈ lw_all := lw_g (lw_at lw_m1 184 rfl) rfl
theorem q268 : (Jvm.Cond.fieldLink "WindGas" (18 : Nat) "WindGas" "price" "LWindGas$Tellings;") ∈ lw_all := lw_g (lw_at lw_m1 185 rfl) rfl
theorem q269 : (Jvm.Cond.fieldLink "WindGas" (21 : Nat) "WindGas" "rain" "LWindGas$Tellings;") ∈ lw_all := lw_g (lw_at lw_m1 186 rfl) rfl
theorem q270 : (Jvm.Cond.fieldLink "WindGas" (27 : Nat) "WindGas" "rules" "Ljava/util/ArrayList;") ∈ lw_all := lw_g (lw_at lw_m1 187 rfl) rfl
theorem q271 : (Jvm.Cond.fieldLink "WindGas" (36 : Nat) "WindGas" "bare" "LWindGas$Rules;") ∈ lw_all := lw_g (lw_at lw_m1 188 rfl) rfl
theorem q272 : (Jvm.Cond.fieldLink "WindGas" (40 : Nat) "WindGas" "tape" "[B") ∈ lw_all := lw_g (lw_at lw_m1 189 rfl) rfl
theorem q273 : (Jvm.Cond.fieldLink "WindGas" (163 : Nat) "WindGas" "taped" "I") ∈ lw_all := lw_g (lw_at lw_m1 190 rfl) rfl
theorem q274 : (Jvm.Cond.fieldLink "WindGas" (44 : Nat) "WindGas" "fault" "I") ∈ lw_all := lw_g (lw_at lw_m1 191 rfl) rfl
theorem q275 : (Jvm.Cond.fieldLink "WindGas" (170 : Nat) "WindGas" "limit" "I") ∈ lw_all := lw_g (lw_at lw_m1 192 rfl) rfl
theorem q276 : (Jvm.Cond.fieldLink "WindGas" (173 : Nat) "WindGas" "point" "I") ∈ lw_all := lw_g (lw_at lw_m1 193 rfl) rfl
theorem q277 : (Jvm.Cond.fieldLink "WindGas" (179 : Nat) "WindGas" "from" "I") ∈ lw_all := lw_g (lw_at lw_m1 194 rfl) rfl
theorem q278 : (Jvm.Cond.fieldLink "WindGas" (201 : Nat) "WindGas" "value" "I") ∈ lw_all := lw_g (lw_at lw_m1 195 rfl) rfl
theorem q279 : (Jvm.Cond.fieldLink "WindGas" (251 : Nat) "WindGas" "open" "I") ∈ lw_all := lw_g (lw_at lw_m1 196 rfl) rfl
theorem q280 : (Jvm.Cond.fieldLink "WindGas" (180 : Nat) "WindGas" "token" "C") ∈ lw_all := lw_g (lw_at lw_m1 197 rfl) rfl
theorem q281 : (Jvm.Cond.fieldLink "WindGas" (50 : Nat) "WindGas" "word" "Ljava/lang/String;") ∈ lw_all := lw_g (lw_at lw_m1 198 rfl) rfl
theorem q282 : (Jvm.Cond.fieldLink "WindGas" (57 : Nat) "WindGas" "tubes" "LWindGas$Store;") ∈ lw_all := lw_g (lw_at lw_m1 199 rfl) rfl
theorem q283 : (Jvm.Cond.fieldLink "WindGas" (61 : Nat) "WindGas" "cavern" "LWindGas$Store;") ∈ lw_all := lw_g (lw_at lw_m1 200 rfl) rfl
theorem q284 : (Jvm.Cond.fieldLink "WindGas" (64 : Nat) "WindGas" "stacks" "Ljava/util/ArrayList;") ∈ lw_all := lw_g (lw_at lw_m1 201 rfl) rfl
theorem q285 : (Jvm.Cond.fieldLink "WindGas" (422 : Nat) "WindGas" "tankRoom" "I") ∈ lw_all := lw_g (lw_at lw_m1 202 rfl) rfl
theorem q286 : (Jvm.Cond.fieldLink "WindGas" (425 : Nat) "WindGas" "tankHas" "I") ∈ lw_all := lw_g (lw_at lw_m1 203 rfl) rfl
theorem q287 : (Jvm.Cond.fieldLink "WindGas" (488 : Nat) "WindGas" "blew" "J") ∈ lw_all := lw_g (lw_at lw_m1 204 rfl) rfl
theorem q288 : (Jvm.Cond.fieldLink "WindGas" (491 : Nat) "WindGas" "taken" "J") ∈ lw_all := lw_g (lw_at lw_m1 205 rfl) rfl
theorem q289 : (Jvm.Cond.fieldLink "WindGas" (509 : Nat) "WindGas" "sold" "J") ∈ lw_all := lw_g (lw_at lw_m1 206 rfl) rfl
theorem q290 : (Jvm.Cond.fieldLink "WindGas" (515 : Nat) "WindGas" "unsold" "J") ∈ lw_all := lw_g (lw_at lw_m1 207 rfl) rfl
theorem q291 : (Jvm.Cond.fieldLink "WindGas" (494 : Nat) "WindGas" "made" "J") ∈ lw_all := lw_g (lw_at lw_m1 208 rfl) rfl
theorem q292 : (Jvm.Cond.fieldLink "WindGas" (506 : Nat) "WindGas" "vented" "J") ∈ lw_all := lw_g (lw_at lw_m1 209 rfl) rfl
theorem q293 : (Jvm.Cond.fieldLink "WindGas" (544 : Nat) "WindGas" "drunk" "J") ∈ lw_all := lw_g (lw_at lw_m1 210 rfl) rfl
theorem q294 : (Jvm.Cond.fieldLink "WindGas" (481 : Nat) "WindGas" "noRoom" "J") ∈ lw_all := lw_g (lw_at lw_m1 211 rfl) rfl
theorem q295 : (Jvm.Cond.fieldLink "WindGas" (512 : Nat) "WindGas" "coins" "J") ∈ lw_all := lw_g (lw_at lw_m1 212 rfl) rfl
theorem q296 : (Jvm.Cond.fieldLink "WindGas" (67 : Nat) "WindGas" "storedThen" "[I") ∈ lw_all := lw_g (lw_at lw_m1 213 rfl) rfl
theorem q297 : (Jvm.Cond.fieldLink "WindGas" (71 : Nat) "WindGas" "waterThen" "[I") ∈ lw_all := lw_g (lw_at lw_m1 214 rfl) rfl
theorem q298 : (Jvm.Cond.fieldLink "WindGas" (74 : Nat) "WindGas" "runningThen" "[I") ∈ lw_all := lw_g (lw_at lw_m1 215 rfl) rfl
theorem q299 : (Jvm.Cond.fieldLink "WindGas" (77 : Nat) "WindGas" "asks" "[J") ∈ lw_all := lw_g (lw_at lw_m1 216 rfl) rfl
theorem q300 : (Jvm.Cond.fieldLink "WindGas" (81 : Nat) "WindGas" "order" "[I") ∈ lw_all := lw_g (lw_at lw_m1 217 rfl) rfl
theorem q301 : (Jvm.Cond.fieldLink "WindGas" (453 : Nat) "WindGas" "gas" "I") ∈ lw_all := lw_g (lw_at lw_m1 218 rfl) rfl
theorem q302 : (Jvm.Cond.fieldLink "WindGas" (455 : Nat) "WindGas" "foul" "I") ∈ lw_all := lw_g (lw_at lw_m1 219 rfl) rfl
theorem q303 : (Jvm.Cond.fieldLink "WindGas" (84 : Nat) "WindGas" "trips" "Ljava/util/ArrayList;") ∈ lw_all := lw_g (lw_at lw_m1 220 rfl) rfl
theorem q304 : (Jvm.Cond.fieldLink "WindGas" (87 : Nat) "WindGas" "papers" "Ljava/util/ArrayList;") ∈ lw_all := lw_g (lw_at lw_m1 221 rfl) rfl
theorem q305 : (Jvm.Cond.fieldLink "WindGas" (90 : Nat) "WindGas" "places" "Ljava/util/ArrayList;") ∈ lw_all := lw_g (lw_at lw_m1 222 rfl) rfl
theorem q306 : (Jvm.Cond.fieldLink "WindGas" (93 : Nat) "WindGas" "fewest" "[I") ∈ lw_all := lw_g (lw_at lw_m1 223 rfl) rfl
theorem q307 : (Jvm.Cond.fieldLink "WindGas" (96 : Nat) "WindGas" "gives" "[I") ∈ lw_all := lw_g (lw_at lw_m1 224 rfl) rfl
theorem q308 : (Jvm.Cond.lays "WindGas" "WindGas" "now" "I") ∈ lw_all := lw_g (lw_at lw_m1 225 rfl) rfl
theorem q309 : (Jvm.Cond.soleField "WindGas" "now") ∈ lw_all := lw_g (lw_at lw_m1 226 rfl) rfl
theorem q310 : (Jvm.Cond.laysFinal "WindGas" "WindGas" "wind" "LWindGas$Tellings;") ∈ lw_all := lw_g (lw_at lw_m1 227 rfl) rfl
theorem q311 : (Jvm.Cond.soleField "WindGas" "wind") ∈ lw_all := lw_g (lw_at lw_m1 228 rfl) rfl
theorem q312 : (Jvm.Cond.laysFinal "WindGas" "WindGas" "price" "LWindGas$Tellings;") ∈ lw_all := lw_g (lw_at lw_m1 229 rfl) rfl
theorem q313 : (Jvm.Cond.soleField "WindGas" "price") ∈ lw_all := lw_g (lw_at lw_m1 230 rfl) rfl
theorem q314 : (Jvm.Cond.laysFinal "WindGas" "WindGas" "rain" "LWindGas$Tellings;") ∈ lw_all := lw_g (lw_at lw_m1 231 rfl) rfl
theorem q315 : (Jvm.Cond.soleField "WindGas" "rain") ∈ lw_all := lw_g (lw_at lw_m1 232 rfl) rfl
theorem q316 : (Jvm.Cond.laysFinal "WindGas" "WindGas" "rules" "Ljava/util/ArrayList;") ∈ lw_all := lw_g (lw_at lw_m1 233 rfl) rfl
theorem q317 : (Jvm.Cond.soleField "WindGas" "rules") ∈ lw_all := lw_g (lw_at lw_m1 234 rfl) rfl
theorem q318 : (Jvm.Cond.laysFinal "WindGas" "WindGas" "bare" "LWindGas$Rules;") ∈ lw_all := lw_g (lw_at lw_m1 235 rfl) rfl
theorem q319 : (Jvm.Cond.soleField "WindGas" "bare") ∈ lw_all := lw_g (lw_at lw_m1 236 rfl) rfl
theorem q320 : (Jvm.Cond.laysFinal "WindGas" "WindGas" "tape" "[B") ∈ lw_all := lw_g (lw_at lw_m1 237 rfl) rfl
theorem q321 : (Jvm.Cond.soleField "WindGas" "tape") ∈ lw_all := lw_g (lw_at lw_m1 238 rfl) rfl
theorem q322 : (Jvm.Cond.lays "WindGas" "WindGas" "taped" "I") ∈ lw_all := lw_g (lw_at lw_m1 239 rfl) rfl
theorem q323 : (Jvm.Cond.soleField "WindGas" "taped") ∈ lw_all := lw_g (lw_at lw_m2 0 rfl) rfl
theorem q324 : (Jvm.Cond.lays "WindGas" "WindGas" "fault" "I") ∈ lw_all := lw_g (lw_at lw_m2 1 rfl) rfl
theorem q325 : (Jvm.Cond.soleField "WindGas" "fault") ∈ lw_all := lw_g (lw_at lw_m2 2 rfl) rfl
theorem q326 : (Jvm.Cond.lays "WindGas" "WindGas" "limit" "I") ∈ lw_all := lw_g (lw_at lw_m2 3 rfl) rfl
theorem q327 : (Jvm.Cond.soleField "WindGas" "limit") ∈ lw_all := lw_g (lw_at lw_m2 4 rfl) rfl
theorem q328 : (Jvm.Cond.lays "WindGas" "WindGas" "point" "I") ∈ lw_all := lw_g (lw_at lw_m2 5 rfl) rfl
theorem q329 : (Jvm.Cond.soleField "WindGas" "point") ∈ lw_all := lw_g (lw_at lw_m2 6 rfl) rfl
theorem q330 : (Jvm.Cond.lays "WindGas" "WindGas" "from" "I") ∈ lw_all := lw_g (lw_at lw_m2 7 rfl) rfl
theorem q331 : (Jvm.Cond.soleField "WindGas" "from") ∈ lw_all := lw_g (lw_at lw_m2 8 rfl) rfl
theorem q332 : (Jvm.Cond.lays "WindGas" "WindGas" "value" "I") ∈ lw_all := lw_g (lw_at lw_m2 9 rfl) rfl
theorem q333 : (Jvm.Cond.soleField "WindGas" "value") ∈ lw_all := lw_g (lw_at lw_m2 10 rfl) rfl
theorem q334 : (Jvm.Cond.lays "WindGas" "WindGas" "open" "I") ∈ lw_all := lw_g (lw_at lw_m2 11 rfl) rfl
theorem q335 : (Jvm.Cond.soleField "WindGas" "open") ∈ lw_all := lw_g (lw_at lw_m2 12 rfl) rfl
theorem q336 : (Jvm.Cond.lays "WindGas" "WindGas" "token" "C") ∈ lw_all := lw_g (lw_at lw_m2 13 rfl) rfl
theorem q337 : (Jvm.Cond.soleField "WindGas" "token") ∈ lw_all := lw_g (lw_at lw_m2 14 rfl) rfl
theorem q338 : (Jvm.Cond.lays "WindGas" "WindGas" "word" "Ljava/lang/String;") ∈ lw_all := lw_g (lw_at lw_m2 15 rfl) rfl
theorem q339 : (Jvm.Cond.soleField "WindGas" "word") ∈ lw_all := lw_g (lw_at lw_m2 16 rfl) rfl
theorem q340 : (Jvm.Cond.laysFinal "WindGas" "WindGas" "tubes" "LWindGas$Store;") ∈ lw_all := lw_g (lw_at lw_m2 17 rfl) rfl
theorem q341 : (Jvm.Cond.soleField "WindGas" "tubes") ∈ lw_all := lw_g (lw_at lw_m2 18 rfl) rfl
theorem q342 : (Jvm.Cond.laysFinal "WindGas" "WindGas" "cavern" "LWindGas$Store;") ∈ lw_all := lw_g (lw_at lw_m2 19 rfl) rfl
theorem q343 : (Jvm.Cond.soleField "WindGas" "cavern") ∈ lw_all := lw_g (lw_at lw_m2 20 rfl) rfl
theorem q344 : (Jvm.Cond.laysFinal "WindGas" "WindGas" "stacks" "Ljava/util/ArrayList;") ∈ lw_all := lw_g (lw_at lw_m2 21 rfl) rfl
theorem q345 : (Jvm.Cond.soleField "WindGas" "stacks") ∈ lw_all := lw_g (lw_at lw_m2 22 rfl) rfl
theorem q346 : (Jvm.Cond.lays "WindGas" "WindGas" "tankRoom" "I") ∈ lw_all := lw_g (lw_at lw_m2 23 rfl) rfl
theorem q347 : (Jvm.Cond.soleField "WindGas" "tankRoom") ∈ lw_all := lw_g (lw_at lw_m2 24 rfl) rfl
theorem q348 : (Jvm.Cond.lays "WindGas" "WindGas" "tankHas" "I") ∈ lw_all := lw_g (lw_at lw_m2 25 rfl) rfl
theorem q349 : (Jvm.Cond.soleField "WindGas" "tankHas") ∈ lw_all := lw_g (lw_at lw_m2 26 rfl) rfl
theorem q350 : (Jvm.Cond.lays "WindGas" "WindGas" "blew" "J") ∈ lw_all := lw_g (lw_at lw_m2 27 rfl) rfl
theorem q351 : (Jvm.Cond.soleField "WindGas" "blew") ∈ lw_all := lw_g (lw_at lw_m2 28 rfl) rfl
theorem q352 : (Jvm.Cond.lays "WindGas" "WindGas" "taken" "J") ∈ lw_all := lw_g (lw_at lw_m2 29 rfl) rfl
theorem q353 : (Jvm.Cond.soleField "WindGas" "taken") ∈ lw_all := lw_g (lw_at lw_m2 30 rfl) rfl
theorem q354 : (Jvm.Cond.lays "WindGas" "WindGas" "sold" "J") ∈ lw_all := lw_g (lw_at lw_m2 31 rfl) rfl
theorem q355 : (Jvm.Cond.soleField "WindGas" "sold") ∈ lw_all := lw_g (lw_at lw_m2 32 rfl) rfl
theorem q356 : (Jvm.Cond.lays "WindGas" "WindGas" "unsold" "J") ∈ lw_all := lw_g (lw_at lw_m2 33 rfl) rfl
theorem q357 : (Jvm.Cond.soleField "WindGas" "unsold") ∈ lw_all := lw_g (lw_at lw_m2 34 rfl) rfl
theorem q358 : (Jvm.Cond.lays "WindGas" "WindGas" "made" "J") ∈ lw_all := lw_g (lw_at lw_m2 35 rfl) rfl
theorem q359 : (Jvm.Cond.soleField "WindGas" "made") ∈ lw_all := lw_g (lw_at lw_m2 36 rfl) rfl
theorem q360 : (Jvm.Cond.lays "WindGas" "WindGas" "vented" "J") ∈ lw_all := lw_g (lw_at lw_m2 37 rfl) rfl
theorem q361 : (Jvm.Cond.soleField "WindGas" "vented") ∈ lw_all := lw_g (lw_at lw_m2 38 rfl) rfl
theorem q362 : (Jvm.Cond.lays "WindGas" "WindGas" "drunk" "J") ∈ lw_all := lw_g (lw_at lw_m2 39 rfl) rfl
theorem q363 : (Jvm.Cond.soleField "WindGas" "drunk") ∈ lw_all := lw_g (lw_at lw_m2 40 rfl) rfl
theorem q364 : (Jvm.Cond.lays "WindGas" "WindGas" "noRoom" "J") ∈ lw_all := lw_g (lw_at lw_m2 41 rfl) rfl
theorem q365 : (Jvm.Cond.soleField "WindGas" "noRoom") ∈ lw_all := lw_g (lw_at lw_m2 42 rfl) rfl
theorem q366 : (Jvm.Cond.lays "WindGas" "WindGas" "coins" "J") ∈ lw_all := lw_g (lw_at lw_m2 43 rfl) rfl
theorem q367 : (Jvm.Cond.soleField "WindGas" "coins") ∈ lw_all := lw_g (lw_at lw_m2 44 rfl) rfl
theorem q368 : (Jvm.Cond.laysFinal "WindGas" "WindGas" "storedThen" "[I") ∈ lw_all := lw_g (lw_at lw_m2 45 rfl) rfl
theorem q369 : (Jvm.Cond.soleField "WindGas" "storedThen") ∈ lw_all := lw_g (lw_at lw_m2 46 rfl) rfl
theorem q370 : (Jvm.Cond.laysFinal "WindGas" "WindGas" "waterThen" "[I") ∈ lw_all := lw_g (lw_at lw_m2 47 rfl) rfl
theorem q371 : (Jvm.Cond.soleField "WindGas" "waterThen") ∈ lw_all := lw_g (lw_at lw_m2 48 rfl) rfl
theorem q372 : (Jvm.Cond.laysFinal "WindGas" "WindGas" "runningThen" "[I") ∈ lw_all := lw_g (lw_at lw_m2 49 rfl) rfl
theorem q373 : (Jvm.Cond.soleField "WindGas" "runningThen") ∈ lw_all := lw_g (lw_at lw_m2 50 rfl) rfl
theorem q374 : (Jvm.Cond.laysFinal "WindGas" "WindGas" "asks" "[J") ∈ lw_all := lw_g (lw_at lw_m2 51 rfl) rfl
theorem q375 : (Jvm.Cond.soleField "WindGas" "asks") ∈ lw_all := lw_g (lw_at lw_m2 52 rfl) rfl
theorem q376 : (Jvm.Cond.laysFinal "WindGas" "WindGas" "order" "[I") ∈ lw_all := lw_g (lw_at lw_m2 53 rfl) rfl
theorem q377 : (Jvm.Cond.soleField "WindGas" "order") ∈ lw_all := lw_g (lw_at lw_m2 54 rfl) rfl
theorem q378 : (Jvm.Cond.lays "WindGas" "WindGas" "gas" "I") ∈ lw_all := lw_g (lw_at lw_m2 55 rfl) rfl
theorem q379 : (Jvm.Cond.soleField "WindGas" "gas") ∈ lw_all := lw_g (lw_at lw_m2 56 rfl) rfl
theorem q380 : (Jvm.Cond.lays "WindGas" "WindGas" "foul" "I") ∈ lw_all := lw_g (lw_at lw_m2 57 rfl) rfl
theorem q381 : (Jvm.Cond.soleField "WindGas" "foul") ∈ lw_all := lw_g (lw_at lw_m2 58 rfl) rfl
theorem q382 : (Jvm.Cond.laysFinal "WindGas" "WindGas" "trips" "Ljava/util/ArrayList;") ∈ lw_all := lw_g (lw_at lw_m2 59 rfl) rfl
theorem q383 : (Jvm.Cond.soleField "WindGas" "trips") ∈ lw_all := lw_g (lw_at lw_m2 60 rfl) rfl
theorem q384 : (Jvm.Cond.laysFinal "WindGas" "WindGas" "papers" "Ljava/util/ArrayList;") ∈ lw_all := lw_g (lw_at lw_m2 61 rfl) rfl
theorem q385 : (Jvm.Cond.soleField "WindGas" "papers") ∈ lw_all := lw_g (lw_at lw_m2 62 rfl) rfl
theorem q386 : (Jvm.Cond.laysFinal "WindGas" "WindGas" "places" "Ljava/util/ArrayList;") ∈ lw_all := lw_g (lw_at lw_m2 63 rfl) rfl
theorem q387 : (Jvm.Cond.soleField "WindGas" "places") ∈ lw_all := lw_g (lw_at lw_m2 64 rfl) rfl
theorem q388 : (Jvm.Cond.laysFinal "WindGas" "WindGas" "fewest" "[I") ∈ lw_all := lw_g (lw_at lw_m2 65 rfl) rfl
theorem q389 : (Jvm.Cond.soleField "WindGas" "fewest") ∈ lw_all := lw_g (lw_at lw_m2 66 rfl) rfl
theorem q390 : (Jvm.Cond.laysFinal "WindGas" "WindGas" "gives" "[I") ∈ lw_all := lw_g (lw_at lw_m2 67 rfl) rfl
theorem q391 : (Jvm.Cond.soleField "WindGas" "gives") ∈ lw_all := lw_g (lw_at lw_m2 68 rfl) rfl
theorem q392 : (Jvm.Cond.superclass "WindGas" "java/lang/Object") ∈ lw_all := lw_g (lw_at lw_m2 69 rfl) rfl
theorem q396 : (Jvm.Cond.instanceMethod ({ cls := "WindGas", name := "tell", desc := "(IIII)Z" } : Jvm.MethodName)) ∈ lw_all := lw_g (lw_at lw_m2 73 rfl) rfl
theorem q397 : (Jvm.Cond.selects "WindGas" ({ cls := "WindGas", name := "tell", desc := "(IIII)Z" } : Jvm.MethodName) ({ cls := "WindGas", name := "tell", desc := "(IIII)Z" } : Jvm.MethodName)) ∈ lw_all := lw_g (lw_at lw_m2 74 rfl) rfl
theorem q398 : (Jvm.Cond.code ({ cls := "WindGas", name := "tell", desc := "(IIII)Z" } : Jvm.MethodName) prog_1_method_5_code (5 : Nat) (Option.some Jvm.ClassFile.FieldType.boolean)) ∈ lw_all := lw_g (lw_at lw_m2 75 rfl) rfl
theorem q399 : (Jvm.Cond.constantLong "WindGas" (105 : Nat) (2 : Int64)) ∈ lw_all := lw_g (lw_at lw_m2 76 rfl) rfl
theorem q400 : (Jvm.Cond.methodLink "WindGas" (101 : Nat) ({ cls := "WindGas", name := "isIn", desc := "(JJJ)Z" } : Jvm.MethodName)) ∈ lw_all := lw_g (lw_at lw_m2 77 rfl) rfl
theorem q401 : (Jvm.Cond.static ({ cls := "WindGas", name := "isIn", desc := "(JJJ)Z" } : Jvm.MethodName)) ∈ lw_all := lw_g (lw_at lw_m2 78 rfl) rfl
theorem q402 : (Jvm.Cond.code ({ cls := "WindGas", name := "isIn", desc := "(JJJ)Z" } : Jvm.MethodName) prog_1_method_1_code (6 : Nat) (Option.some Jvm.ClassFile.FieldType.boolean)) ∈ lw_all := lw_g (lw_at lw_m2 79 rfl) rfl
theorem q403 : (Jvm.Cond.methodLink "WindGas" (107 : Nat) ({ cls := "WindGas", name := "isTen", desc := "(I)Z" } : Jvm.MethodName)) ∈ lw_all := lw_g (lw_at lw_m2 80 rfl) rfl
theorem q404 : (Jvm.Cond.static ({ cls := "WindGas", name := "isTen", desc := "(I)Z" } : Jvm.MethodName)) ∈ lw_all := lw_g (lw_at lw_m2 81 rfl) rfl
theorem q405 : (Jvm.Cond.code ({ cls := "WindGas", name := "isTen", desc := "(I)Z" } : Jvm.MethodName) prog_1_method_4_code (1 : Nat) (Option.some Jvm.ClassFile.FieldType.boolean)) ∈ lw_all := lw_g (lw_at lw_m2 82 rfl) rfl
theorem q406 : (Jvm.Cond.constantLong "WindGas" (99 : Nat) (4999 : Int64)) ∈ lw_all := lw_g (lw_at lw_m2 83 rfl) rfl
theorem q407 : (Jvm.Cond.methodLink "WindGas" (111 : Nat) ({ cls := "WindGas", name := "tellings", desc := "(I)LWindGas$Tellings;" } : Jvm.MethodName)) ∈ lw_all := lw_g (lw_at lw_m2 84 rfl) rfl
theorem q408 : (Jvm.Cond.privateMethod ({ cls := "WindGas", name := "tellings", desc := "(I)LWindGas$Tellings;" } : Jvm.MethodName)) ∈ lw_tbl := lw_at lw_m2 85 rfl
theorem q409 : (Jvm.Cond.instanceMethod ({ cls := "WindGas", name := "tellings", desc := "(I)LWindGas$Tellings;" } : Jvm.MethodName)) ∈ lw_all := lw_g (lw_at lw_m2 86 rfl) rfl
theorem q410 : (Jvm.Cond.code ({ cls := "WindGas", name := "tellings", desc := "(I)LWindGas$Tellings;" } : Jvm.MethodName) prog_1_method_3_code (2 : Nat) (Option.some (Jvm.ClassFile.FieldType.object "WindGas$Tellings"))) ∈ lw_all := lw_g (lw_at lw_m2 87 rfl) rfl
theorem q411 : (Jvm.Cond.methodLink "WindGas" (115 : Nat) ({ cls := "WindGas$Tellings", name := "add", desc := "(III)Z" } : Jvm.MethodName)) ∈ lw_all := lw_g (lw_at lw_m2 88 rfl) rfl
theorem q471 : (Jvm.Cond.selects "WindGas" ({ cls := "java/lang/Object", name := "getClass", desc := "()Ljava/lang/Class;" } : Jvm.MethodName) ({ cls := "java/lang/Object", name := "getClass", desc := "()Ljava/lang/Class;" } : Jvm.MethodName)) ∈ lw_all := lw_g (lw_at lw_m2 148 rfl) rfl
theorem q508 : (Jvm.Cond.instanceMethod ({ cls := "WindGas", name := "said", desc := "(II)I" } : Jvm.MethodName)) ∈ lw_all := lw_g (lw_at lw_m2 185 rfl) rfl
theorem q509 : (Jvm.Cond.selects "WindGas" ({ cls := "WindGas", name := "said", desc := "(II)I" } : Jvm.MethodName) ({ cls := "WindGas", name := "said", desc := "(II)I" } : Jvm.MethodName)) ∈ lw_all := lw_g (lw_at lw_m2 186 rfl) rfl
theorem q510 : (Jvm.Cond.code ({ cls := "WindGas", name := "said", desc := "(II)I" } : Jvm.MethodName) prog_1_method_6_code (3 : Nat) (Option.some Jvm.ClassFile.FieldType.int)) ∈ lw_all := lw_g (lw_at lw_m2 187 rfl) rfl
theorem q511 : (Jvm.Cond.methodLink "WindGas" (119 : Nat) ({ cls := "WindGas$Tellings", name := "at", desc := "(I)I" } : Jvm.MethodName)) ∈ lw_all := lw_g (lw_at lw_m2 188 rfl) rfl
theorem q541 : (Jvm.Cond.constant "WindGas" (123 : Nat) (-100000 : Int32)) ∈ lw_all := lw_g (lw_at lw_m2 218 rfl) rfl
theorem q543 : (Jvm.Cond.instanceMethod ({ cls := "WindGas", name := "law", desc := "(II)I" } : Jvm.MethodName)) ∈ lw_all := lw_g (lw_at lw_m2 220 rfl) rfl
theorem q544 : (Jvm.Cond.selects "WindGas" ({ cls := "WindGas", name := "law", desc := "(II)I" } : Jvm.MethodName) ({ cls := "WindGas", name := "law", desc := "(II)I" } : Jvm.MethodName)) ∈ lw_all := lw_g (lw_at lw_m2 221 rfl) rfl
theorem q545 : (Jvm.Cond.code ({ cls := "WindGas", name := "law", desc := "(II)I" } : Jvm.MethodName) prog_1_method_9_code (4 : Nat) (Option.some Jvm.ClassFile.FieldType.int)) ∈ lw_all := lw_g (lw_at lw_m2 222 rfl) rfl
theorem q546 : (Jvm.Cond.methodLink "WindGas" (138 : Nat) ({ cls := "WindGas", name := "at", desc := "(I)LWindGas$Rules;" } : Jvm.MethodName)) ∈ lw_all := lw_g (lw_at lw_m2 223 rfl) rfl
theorem q547 : (Jvm.Cond.privateMethod ({ cls := "WindGas", name := "at", desc := "(I)LWindGas$Rules;" } : Jvm.MethodName)) ∈ lw_tbl := lw_at lw_m2 224 rfl
theorem q548 : (Jvm.Cond.instanceMethod ({ cls := "WindGas", name := "at", desc := "(I)LWindGas$Rules;" } : Jvm.MethodName)) ∈ lw_all := lw_g (lw_at lw_m2 225 rfl) rfl
theorem q549 : (Jvm.Cond.code ({ cls := "WindGas", name := "at", desc := "(I)LWindGas$Rules;" } : Jvm.MethodName) prog_1_method_8_code (2 : Nat) (Option.some (Jvm.ClassFile.FieldType.object "WindGas$Rules"))) ∈ lw_all := lw_g (lw_at lw_m2 226 rfl) rfl
theorem q550 : (Jvm.Cond.methodLink "WindGas" (135 : Nat) ({ cls := "WindGas", name := "numberAt", desc := "(I)I" } : Jvm.MethodName)) ∈ lw_all := lw_g (lw_at lw_m2 227 rfl) rfl
theorem q551 : (Jvm.Cond.privateMethod ({ cls := "WindGas", name := "numberAt", desc := "(I)I" } : Jvm.MethodName)) ∈ lw_tbl := lw_at lw_m2 228 rfl
theorem q552 : (Jvm.Cond.instanceMethod ({ cls := "WindGas", name := "numberAt", desc := "(I)I" } : Jvm.MethodName)) ∈ lw_all := lw_g (lw_at lw_m2 229 rfl) rfl
theorem q553 : (Jvm.Cond.code ({ cls := "WindGas", name := "numberAt", desc := "(I)I" } : Jvm.MethodName) prog_1_method_7_code (4 : Nat) (Option.some Jvm.ClassFile.FieldType.int)) ∈ lw_all := lw_g (lw_at lw_m2 230 rfl) rfl
theorem q554 : (Jvm.Cond.methodLink "WindGas" (124 : Nat) ({ cls := "java/util/ArrayList", name := "size", desc := "()I" } : Jvm.MethodName)) ∈ lw_all := lw_g (lw_at lw_m2 231 rfl) rfl
theorem q555 : (Jvm.Cond.methodLink "WindGas" (128 : Nat) ({ cls := "java/util/ArrayList", name := "get", desc := "(I)Ljava/lang/Object;" } : Jvm.MethodName)) ∈ lw_all := lw_g (lw_at lw_m2 232 rfl) rfl
theorem q557 : (Jvm.Cond.instanceMethod ({ cls := "WindGas", name := "feed", desc := "(IIIII)I" } : Jvm.MethodName)) ∈ lw_all := lw_g (lw_at lw_m2 234 rfl) rfl
theorem q558 : (Jvm.Cond.selects "WindGas" ({ cls := "WindGas", name := "feed", desc := "(IIIII)I" } : Jvm.MethodName) ({ cls := "WindGas", name := "feed", desc := "(IIIII)I" } : Jvm.MethodName)) ∈ lw_all := lw_g (lw_at lw_m2 235 rfl) rfl
theorem q559 : (Jvm.Cond.code ({ cls := "WindGas", name := "feed", desc := "(IIIII)I" } : Jvm.MethodName) prog_1_method_10_code (6 : Nat) (Option.some Jvm.ClassFile.FieldType.int)) ∈ lw_all := lw_g (lw_at lw_m2 236 rfl) rfl
theorem q560 : (Jvm.Cond.methodLink "WindGas" (166 : Nat) ({ cls := "WindGas", name := "tapes", desc := "([I)I" } : Jvm.MethodName)) ∈ lw_all := lw_g (lw_at lw_m2 237 rfl) rfl
theorem q561 : (Jvm.Cond.privateMethod ({ cls := "WindGas", name := "tapes", desc := "([I)I" } : Jvm.MethodName)) ∈ lw_tbl := lw_at lw_m2 238 rfl
theorem q562 : (Jvm.Cond.instanceMethod ({ cls := "WindGas", name := "tapes", desc := "([I)I" } : Jvm.MethodName)) ∈ lw_all := lw_g (lw_at lw_m2 239 rfl) rfl
theorem q563 : (Jvm.Cond.code ({ cls := "WindGas", name := "tapes", desc := "([I)I" } : Jvm.MethodName) prog_1_method_11_code (7 : Nat) (Option.some Jvm.ClassFile.FieldType.int)) ∈ lw_all := lw_g (lw_at lw_m3 0 rfl) rfl
theorem q565 : (Jvm.Cond.instanceMethod ({ cls := "WindGas", name := "rules", desc := "(I)I" } : Jvm.MethodName)) ∈ lw_all := lw_g (lw_at lw_m3 2 rfl) rfl
theorem q566 : (Jvm.Cond.selects "WindGas" ({ cls := "WindGas", name := "rules", desc := "(I)I" } : Jvm.MethodName) ({ cls := "WindGas", name := "rules", desc := "(I)I" } : Jvm.MethodName)) ∈ lw_all := lw_g (lw_at lw_m3 3 rfl) rfl
theorem q567 : (Jvm.Cond.codeWith ({ cls := "WindGas", name := "rules", desc := "(I)I" } : Jvm.MethodName) prog_1_method_29_code (6 : Nat) (Option.some Jvm.ClassFile.FieldType.int) [((59 : Nat), (120 : Nat), (127 : Nat), (214 : Nat)), ((59 : Nat), (120 : Nat), (147 : Nat), (0 : Nat)), ((127 : Nat), (139 : Nat), (147 : Nat), (0 : Nat)), ((147 : Nat), (149 : Nat), (147 : Nat), (0 : Nat))]) ∈ lw_all := lw_g (lw_at lw_m3 4 rfl) rfl
theorem q568 : (Jvm.Cond.classLink "WindGas" (214 : Nat) "WindGas$Wrong") ∈ lw_all := lw_g (lw_at lw_m3 5 rfl) rfl
theorem q569 : (Jvm.Cond.methodLink "WindGas" (217 : Nat) ({ cls := "WindGas", name := "next", desc := "()V" } : Jvm.MethodName)) ∈ lw_all := lw_g (lw_at lw_m3 6 rfl) rfl
theorem q570 : (Jvm.Cond.privateMethod ({ cls := "WindGas", name := "next", desc := "()V" } : Jvm.MethodName)) ∈ lw_tbl := lw_at lw_m3 7 rfl
theorem q571 : (Jvm.Cond.instanceMethod ({ cls := "WindGas", name := "next", desc := "()V" } : Jvm.MethodName)) ∈ lw_all := lw_g (lw_at lw_m3 8 rfl) rfl
theorem q572 : (Jvm.Cond.code ({ cls := "WindGas", name := "next", desc := "()V" } : Jvm.MethodName) prog_1_method_16_code (3 : Nat) (Option.none : Option Jvm.ClassFile.FieldType)) ∈ lw_all := lw_g (lw_at lw_m3 9 rfl) rfl
theorem q573 : (Jvm.Cond.methodLink "WindGas" (176 : Nat) ({ cls := "WindGas", name := "here", desc := "(I)I" } : Jvm.MethodName)) ∈ lw_all := lw_g (lw_at lw_m3 10 rfl) rfl
theorem q574 : (Jvm.Cond.privateMethod ({ cls := "WindGas", name := "here", desc := "(I)I" } : Jvm.MethodName)) ∈ lw_tbl := lw_at lw_m3 11 rfl
theorem q575 : (Jvm.Cond.instanceMethod ({ cls := "WindGas", name := "here", desc := "(I)I" } : Jvm.MethodName)) ∈ lw_all := lw_g (lw_at lw_m3 12 rfl) rfl
theorem q576 : (Jvm.Cond.code ({ cls := "WindGas", name := "here", desc := "(I)I" } : Jvm.MethodName) prog_1_method_12_code (2 : Nat) (Option.some Jvm.ClassFile.FieldType.int)) ∈ lw_all := lw_g (lw_at lw_m3 13 rfl) rfl
theorem q577 : (Jvm.Cond.methodLink "WindGas" (184 : Nat) ({ cls := "WindGas", name := "isLetter", desc := "(I)Z" } : Jvm.MethodName)) ∈ lw_all := lw_g (lw_at lw_m3 14 rfl) rfl
theorem q578 : (Jvm.Cond.static ({ cls := "WindGas", name := "isLetter", desc := "(I)Z" } : Jvm.MethodName)) ∈ lw_all := lw_g (lw_at lw_m3 15 rfl) rfl
theorem q579 : (Jvm.Cond.code ({ cls := "WindGas", name := "isLetter", desc := "(I)Z" } : Jvm.MethodName) prog_1_method_13_code (1 : Nat) (Option.some Jvm.ClassFile.FieldType.boolean)) ∈ lw_all := lw_g (lw_at lw_m3 16 rfl) rfl
theorem q580 : (Jvm.Cond.classLink "WindGas" (187 : Nat) "java/lang/StringBuilder") ∈ lw_all := lw_g (lw_at lw_m3 17 rfl) rfl
theorem q582 : (Jvm.Cond.methodLink "WindGas" (189 : Nat) ({ cls := "java/lang/StringBuilder", name := "<init>", desc := "()V" } : Jvm.MethodName)) ∈ lw_all := lw_g (lw_at lw_m3 19 rfl) rfl
theorem q611 : (Jvm.Cond.methodLink "WindGas" (190 : Nat) ({ cls := "java/lang/StringBuilder", name := "append", desc := "(C)Ljava/lang/StringBuilder;" } : Jvm.MethodName)) ∈ lw_all := lw_g (lw_at lw_m3 48 rfl) rfl
theorem q689 : (Jvm.Cond.methodLink "WindGas" (194 : Nat) ({ cls := "java/lang/StringBuilder", name := "toString", desc := "()Ljava/lang/String;" } : Jvm.MethodName)) ∈ lw_all := lw_g (lw_at lw_m3 126 rfl) rfl
theorem q752 : (Jvm.Cond.methodLink "WindGas" (198 : Nat) ({ cls := "WindGas", name := "isDigit", desc := "(I)Z" } : Jvm.MethodName)) ∈ lw_all := lw_g (lw_at lw_m3 189 rfl) rfl
theorem q753 : (Jvm.Cond.static ({ cls := "WindGas", name := "isDigit", desc := "(I)Z" } : Jvm.MethodName)) ∈ lw_all := lw_g (lw_at lw_m3 190 rfl) rfl
theorem q754 : (Jvm.Cond.code ({ cls := "WindGas", name := "isDigit", desc := "(I)Z" } : Jvm.MethodName) prog_1_method_14_code (1 : Nat) (Option.some Jvm.ClassFile.FieldType.boolean)) ∈ lw_all := lw_g (lw_at lw_m3 191 rfl) rfl
theorem q755 : (Jvm.Cond.constant "WindGas" (204 : Nat) (10000000 : Int32)) ∈ lw_all := lw_g (lw_at lw_m3 192 rfl) rfl
theorem q756 : (Jvm.Cond.methodLink "WindGas" (205 : Nat) ({ cls := "java/lang/Math", name := "min", desc := "(II)I" } : Jvm.MethodName)) ∈ lw_all := lw_g (lw_at lw_m3 193 rfl) rfl
theorem q757 : (Jvm.Cond.methodLink "WindGas" (211 : Nat) ({ cls := "WindGas", name := "isSign", desc := "(I)Z" } : Jvm.MethodName)) ∈ lw_all := lw_g (lw_at lw_m3 194 rfl) rfl
theorem q758 : (Jvm.Cond.static ({ cls := "WindGas", name := "isSign", desc := "(I)Z" } : Jvm.MethodName)) ∈ lw_all := lw_g (lw_at lw_m3 195 rfl) rfl
theorem q759 : (Jvm.Cond.code ({ cls := "WindGas", name := "isSign", desc := "(I)Z" } : Jvm.MethodName) prog_1_method_15_code (1 : Nat) (Option.some Jvm.ClassFile.FieldType.boolean)) ∈ lw_all := lw_g (lw_at lw_m3 196 rfl) rfl
theorem q798 : (Jvm.Cond.methodLink "WindGas" (216 : Nat) ({ cls := "WindGas$Wrong", name := "<init>", desc := "(I)V" } : Jvm.MethodName)) ∈ lw_all := lw_g (lw_at lw_m3 235 rfl) rfl
theorem q811 : (Jvm.Cond.fieldLinkNest "WindGas" (358 : Nat) "WindGas$Wrong" "place" "I" "WindGas") ∈ lw_tbl := lw_at lw_m4 8 rfl
theorem q827 : (Jvm.Cond.methodLink "WindGas" (354 : Nat) ({ cls := "WindGas", name := "statement", desc := "(LWindGas$Rules;)V" } : Jvm.MethodName)) ∈ lw_all := lw_g (lw_at lw_m4 24 rfl) rfl
theorem q828 : (Jvm.Cond.privateMethod ({ cls := "WindGas", name := "statement", desc := "(LWindGas$Rules;)V" } : Jvm.MethodName)) ∈ lw_tbl := lw_at lw_m4 25 rfl
theorem q829 : (Jvm.Cond.instanceMethod ({ cls := "WindGas", name := "statement", desc := "(LWindGas$Rules;)V" } : Jvm.MethodName)) ∈ lw_all := lw_g (lw_at lw_m4 26 rfl) rfl
theorem q830 : (Jvm.Cond.code ({ cls := "WindGas", name := "statement", desc := "(LWindGas$Rules;)V" } : Jvm.MethodName) prog_1_method_28_code (7 : Nat) (Option.none : Option Jvm.ClassFile.FieldType)) ∈ lw_all := lw_g (lw_at lw_m4 27 rfl) rfl
theorem q831 : (Jvm.Cond.methodLink "WindGas" (311 : Nat) ({ cls := "java/lang/String", name := "hashCode", desc := "()I" } : Jvm.MethodName)) ∈ lw_all := lw_g (lw_at lw_m4 28 rfl) rfl
theorem q884 : (Jvm.Cond.stringRef "WindGas" (314 : Nat) "purity") ∈ lw_tbl := lw_at lw_m4 81 rfl
theorem q885 : (Jvm.Cond.methodLink "WindGas" (220 : Nat) ({ cls := "java/lang/String", name := "equals", desc := "(Ljava/lang/Object;)Z" } : Jvm.MethodName)) ∈ lw_all := lw_g (lw_at lw_m4 82 rfl) rfl
theorem q893 : (Jvm.Cond.stringRef "WindGas" (315 : Nat) "storm") ∈ lw_tbl := lw_at lw_m4 90 rfl
theorem q894 : (Jvm.Cond.stringRef "WindGas" (316 : Nat) "least") ∈ lw_tbl := lw_at lw_m4 91 rfl
theorem q895 : (Jvm.Cond.stringRef "WindGas" (317 : Nat) "starts") ∈ lw_tbl := lw_at lw_m4 92 rfl
theorem q896 : (Jvm.Cond.stringRef "WindGas" (318 : Nat) "cable") ∈ lw_tbl := lw_at lw_m4 93 rfl
theorem q897 : (Jvm.Cond.stringRef "WindGas" (319 : Nat) "first") ∈ lw_tbl := lw_at lw_m4 94 rfl
theorem q898 : (Jvm.Cond.stringRef "WindGas" (321 : Nat) "green") ∈ lw_tbl := lw_at lw_m4 95 rfl
theorem q899 : (Jvm.Cond.stringRef "WindGas" (323 : Nat) "sell") ∈ lw_tbl := lw_at lw_m4 96 rfl
theorem q900 : (Jvm.Cond.stringRef "WindGas" (325 : Nat) "apart") ∈ lw_tbl := lw_at lw_m4 97 rfl
theorem q901 : (Jvm.Cond.methodLink "WindGas" (284 : Nat) ({ cls := "WindGas", name := "any", desc := "()I" } : Jvm.MethodName)) ∈ lw_all := lw_g (lw_at lw_m4 98 rfl) rfl
theorem q902 : (Jvm.Cond.privateMethod ({ cls := "WindGas", name := "any", desc := "()I" } : Jvm.MethodName)) ∈ lw_tbl := lw_at lw_m4 99 rfl
theorem q903 : (Jvm.Cond.instanceMethod ({ cls := "WindGas", name := "any", desc := "()I" } : Jvm.MethodName)) ∈ lw_all := lw_g (lw_at lw_m4 100 rfl) rfl
theorem q904 : (Jvm.Cond.code ({ cls := "WindGas", name := "any", desc := "()I" } : Jvm.MethodName) prog_1_method_20_code (1 : Nat) (Option.some Jvm.ClassFile.FieldType.int)) ∈ lw_all := lw_g (lw_at lw_m4 101 rfl) rfl
theorem q905 : (Jvm.Cond.constant "WindGas" (230 : Nat) (999999 : Int32)) ∈ lw_all := lw_g (lw_at lw_m4 102 rfl) rfl
theorem q906 : (Jvm.Cond.methodLink "WindGas" (231 : Nat) ({ cls := "WindGas", name := "number", desc := "(II)I" } : Jvm.MethodName)) ∈ lw_all := lw_g (lw_at lw_m4 103 rfl) rfl
theorem q907 : (Jvm.Cond.privateMethod ({ cls := "WindGas", name := "number", desc := "(II)I" } : Jvm.MethodName)) ∈ lw_tbl := lw_at lw_m4 104 rfl
theorem q908 : (Jvm.Cond.instanceMethod ({ cls := "WindGas", name := "number", desc := "(II)I" } : Jvm.MethodName)) ∈ lw_all := lw_g (lw_at lw_m4 105 rfl) rfl
theorem q909 : (Jvm.Cond.code ({ cls := "WindGas", name := "number", desc := "(II)I" } : Jvm.MethodName) prog_1_method_19_code (4 : Nat) (Option.some Jvm.ClassFile.FieldType.int)) ∈ lw_all := lw_g (lw_at lw_m4 106 rfl) rfl
theorem q910 : (Jvm.Cond.methodLink "WindGas" (226 : Nat) ({ cls := "WindGas", name := "must", desc := "(Z)V" } : Jvm.MethodName)) ∈ lw_all := lw_g (lw_at lw_m4 107 rfl) rfl
theorem q911 : (Jvm.Cond.privateMethod ({ cls := "WindGas", name := "must", desc := "(Z)V" } : Jvm.MethodName)) ∈ lw_tbl := lw_at lw_m4 108 rfl
theorem q912 : (Jvm.Cond.instanceMethod ({ cls := "WindGas", name := "must", desc := "(Z)V" } : Jvm.MethodName)) ∈ lw_all := lw_g (lw_at lw_m4 109 rfl) rfl
theorem q913 : (Jvm.Cond.code ({ cls := "WindGas", name := "must", desc := "(Z)V" } : Jvm.MethodName) prog_1_method_17_code (2 : Nat) (Option.none : Option Jvm.ClassFile.FieldType)) ∈ lw_all := lw_g (lw_at lw_m4 110 rfl) rfl
theorem q914 : (Jvm.Cond.classLink "WindGas" (221 : Nat) "java/lang/String") ∈ lw_all := lw_g (lw_at lw_m4 111 rfl) rfl
theorem q916 : (Jvm.Cond.stringRef "WindGas" (327 : Nat) "fresh") ∈ lw_tbl := lw_at lw_m4 113 rfl
theorem q917 : (Jvm.Cond.stringRef "WindGas" (329 : Nat) "worn") ∈ lw_tbl := lw_at lw_m4 114 rfl
theorem q918 : (Jvm.Cond.methodLink "WindGas" (247 : Nat) ({ cls := "WindGas", name := "oneOf", desc := "([Ljava/lang/String;)I" } : Jvm.MethodName)) ∈ lw_all := lw_g (lw_at lw_m4 115 rfl) rfl
theorem q919 : (Jvm.Cond.privateMethod ({ cls := "WindGas", name := "oneOf", desc := "([Ljava/lang/String;)I" } : Jvm.MethodName)) ∈ lw_tbl := lw_at lw_m4 116 rfl
theorem q920 : (Jvm.Cond.instanceMethod ({ cls := "WindGas", name := "oneOf", desc := "([Ljava/lang/String;)I" } : Jvm.MethodName)) ∈ lw_all := lw_g (lw_at lw_m4 117 rfl) rfl
theorem q921 : (Jvm.Cond.code ({ cls := "WindGas", name := "oneOf", desc := "([Ljava/lang/String;)I" } : Jvm.MethodName) prog_1_method_21_code (3 : Nat) (Option.some Jvm.ClassFile.FieldType.int)) ∈ lw_all := lw_g (lw_at lw_m4 118 rfl) rfl
theorem q922 : (Jvm.Cond.methodLink "WindGas" (234 : Nat) ({ cls := "WindGas", name := "isWord", desc := "(Ljava/lang/String;)Z" } : Jvm.MethodName)) ∈ lw_all := lw_g (lw_at lw_m4 119 rfl) rfl
theorem q923 : (Jvm.Cond.privateMethod ({ cls := "WindGas", name := "isWord", desc := "(Ljava/lang/String;)Z" } : Jvm.MethodName)) ∈ lw_tbl := lw_at lw_m4 120 rfl
theorem q924 : (Jvm.Cond.instanceMethod ({ cls := "WindGas", name := "isWord", desc := "(Ljava/lang/String;)Z" } : Jvm.MethodName)) ∈ lw_all := lw_g (lw_at lw_m4 121 rfl) rfl
theorem q925 : (Jvm.Cond.code ({ cls := "WindGas", name := "isWord", desc := "(Ljava/lang/String;)Z" } : Jvm.MethodName) prog_1_method_18_code (2 : Nat) (Option.some Jvm.ClassFile.FieldType.boolean)) ∈ lw_all := lw_g (lw_at lw_m4 122 rfl) rfl
theorem q926 : (Jvm.Cond.methodLink "WindGas" (334 : Nat) ({ cls := "WindGas", name := "condition", desc := "()LWindGas$Cond;" } : Jvm.MethodName)) ∈ lw_all := lw_g (lw_at lw_m4 123 rfl) rfl
theorem q927 : (Jvm.Cond.privateMethod ({ cls := "WindGas", name := "condition", desc := "()LWindGas$Cond;" } : Jvm.MethodName)) ∈ lw_tbl := lw_at lw_m4 124 rfl
theorem q928 : (Jvm.Cond.instanceMethod ({ cls := "WindGas", name := "condition", desc := "()LWindGas$Cond;" } : Jvm.MethodName)) ∈ lw_all := lw_g (lw_at lw_m4 125 rfl) rfl
theorem q929 : (Jvm.Cond.code ({ cls := "WindGas", name := "condition", desc := "()LWindGas$Cond;" } : Jvm.MethodName) prog_1_method_27_code (1 : Nat) (Option.some (Jvm.ClassFile.FieldType.object "WindGas$Cond"))) ∈ lw_all := lw_g (lw_at lw_m4 126 rfl) rfl
theorem q930 : (Jvm.Cond.stringRef "WindGas" (309 : Nat) "if") ∈ lw_tbl := lw_at lw_m4 127 rfl
theorem q931 : (Jvm.Cond.methodLink "WindGas" (268 : Nat) ({ cls := "WindGas", name := "anyOf", desc := "()LWindGas$Cond;" } : Jvm.MethodName)) ∈ lw_all := lw_g (lw_at lw_m4 128 rfl) rfl
theorem q932 : (Jvm.Cond.privateMethod ({ cls := "WindGas", name := "anyOf", desc := "()LWindGas$Cond;" } : Jvm.MethodName)) ∈ lw_tbl := lw_at lw_m4 129 rfl
theorem q933 : (Jvm.Cond.instanceMethod ({ cls := "WindGas", name := "anyOf", desc := "()LWindGas$Cond;" } : Jvm.MethodName)) ∈ lw_all := lw_g (lw_at lw_m4 130 rfl) rfl
theorem q934 : (Jvm.Cond.code ({ cls := "WindGas", name := "anyOf", desc := "()LWindGas$Cond;" } : Jvm.MethodName) prog_1_method_26_code (2 : Nat) (Option.some (Jvm.ClassFile.FieldType.object "WindGas$Cond"))) ∈ lw_all := lw_g (lw_at lw_m4 131 rfl) rfl
theorem q935 : (Jvm.Cond.classLink "WindGas" (292 : Nat) "WindGas$Row") ∈ lw_all := lw_g (lw_at lw_m4 132 rfl) rfl
theorem q937 : (Jvm.Cond.methodLink "WindGas" (304 : Nat) ({ cls := "WindGas", name := "allOf", desc := "()LWindGas$Cond;" } : Jvm.MethodName)) ∈ lw_all := lw_g (lw_at lw_m4 134 rfl) rfl
theorem q938 : (Jvm.Cond.privateMethod ({ cls := "WindGas", name := "allOf", desc := "()LWindGas$Cond;" } : Jvm.MethodName)) ∈ lw_tbl := lw_at lw_m4 135 rfl
theorem q939 : (Jvm.Cond.instanceMethod ({ cls := "WindGas", name := "allOf", desc := "()LWindGas$Cond;" } : Jvm.MethodName)) ∈ lw_all := lw_g (lw_at lw_m4 136 rfl) rfl
theorem q940 : (Jvm.Cond.code ({ cls := "WindGas", name := "allOf", desc := "()LWindGas$Cond;" } : Jvm.MethodName) prog_1_method_25_code (2 : Nat) (Option.some (Jvm.ClassFile.FieldType.object "WindGas$Cond"))) ∈ lw_all := lw_g (lw_at lw_m4 137 rfl) rfl
theorem q941 : (Jvm.Cond.methodLink "WindGas" (261 : Nat) ({ cls := "WindGas", name := "one", desc := "()LWindGas$Cond;" } : Jvm.MethodName)) ∈ lw_all := lw_g (lw_at lw_m4 138 rfl) rfl
theorem q942 : (Jvm.Cond.privateMethod ({ cls := "WindGas", name := "one", desc := "()LWindGas$Cond;" } : Jvm.MethodName)) ∈ lw_tbl := lw_at lw_m4 139 rfl
theorem q943 : (Jvm.Cond.instanceMethod ({ cls := "WindGas", name := "one", desc := "()LWindGas$Cond;" } : Jvm.MethodName)) ∈ lw_all := lw_g (lw_at lw_m4 140 rfl) rfl
theorem q944 : (Jvm.Cond.code ({ cls := "WindGas", name := "one", desc := "()LWindGas$Cond;" } : Jvm.MethodName) prog_1_method_24_code (5 : Nat) (Option.some (Jvm.ClassFile.FieldType.object "WindGas$Cond"))) ∈ lw_all := lw_g (lw_at lw_m4 141 rfl) rfl
theorem q945 : (Jvm.Cond.stringRef "WindGas" (254 : Nat) "not") ∈ lw_tbl := lw_at lw_m4 142 rfl
theorem q946 : (Jvm.Cond.methodLink "WindGas" (256 : Nat) ({ cls := "WindGas", name := "opens", desc := "()V" } : Jvm.MethodName)) ∈ lw_all := lw_g (lw_at lw_m4 143 rfl) rfl
theorem q947 : (Jvm.Cond.privateMethod ({ cls := "WindGas", name := "opens", desc := "()V" } : Jvm.MethodName)) ∈ lw_tbl := lw_at lw_m4 144 rfl
theorem q948 : (Jvm.Cond.instanceMethod ({ cls := "WindGas", name := "opens", desc := "()V" } : Jvm.MethodName)) ∈ lw_all := lw_g (lw_at lw_m4 145 rfl) rfl
theorem q949 : (Jvm.Cond.code ({ cls := "WindGas", name := "opens", desc := "()V" } : Jvm.MethodName) prog_1_method_23_code (1 : Nat) (Option.none : Option Jvm.ClassFile.FieldType)) ∈ lw_all := lw_g (lw_at lw_m4 146 rfl) rfl
theorem q950 : (Jvm.Cond.classLink "WindGas" (259 : Nat) "WindGas$Not") ∈ lw_all := lw_g (lw_at lw_m4 147 rfl) rfl
theorem q952 : (Jvm.Cond.methodLink "WindGas" (265 : Nat) ({ cls := "WindGas$Not", name := "<init>", desc := "(LWindGas$Cond;)V" } : Jvm.MethodName)) ∈ lw_all := lw_g (lw_at lw_m4 149 rfl) rfl
theorem q960 : (Jvm.Cond.stringRef "WindGas" (271 : Nat) "wind") ∈ lw_tbl := lw_at lw_m4 157 rfl
theorem q961 : (Jvm.Cond.stringRef "WindGas" (272 : Nat) "price") ∈ lw_tbl := lw_at lw_m4 158 rfl
theorem q962 : (Jvm.Cond.stringRef "WindGas" (273 : Nat) "rain") ∈ lw_tbl := lw_at lw_m4 159 rfl
theorem q963 : (Jvm.Cond.stringRef "WindGas" (274 : Nat) "hour") ∈ lw_tbl := lw_at lw_m4 160 rfl
theorem q964 : (Jvm.Cond.stringRef "WindGas" (276 : Nat) "day") ∈ lw_tbl := lw_at lw_m4 161 rfl
theorem q965 : (Jvm.Cond.stringRef "WindGas" (278 : Nat) "stored") ∈ lw_tbl := lw_at lw_m4 162 rfl
theorem q966 : (Jvm.Cond.stringRef "WindGas" (280 : Nat) "water") ∈ lw_tbl := lw_at lw_m4 163 rfl
theorem q967 : (Jvm.Cond.stringRef "WindGas" (282 : Nat) "running") ∈ lw_tbl := lw_at lw_m4 164 rfl
theorem q968 : (Jvm.Cond.classLink "WindGas" (287 : Nat) "WindGas$Test") ∈ lw_all := lw_g (lw_at lw_m4 165 rfl) rfl
theorem q970 : (Jvm.Cond.methodLink "WindGas" (289 : Nat) ({ cls := "WindGas$Test", name := "<init>", desc := "(III)V" } : Jvm.MethodName)) ∈ lw_all := lw_g (lw_at lw_m4 167 rfl) rfl
theorem q984 : (Jvm.Cond.methodLink "WindGas" (294 : Nat) ({ cls := "WindGas$Row", name := "<init>", desc := "(ZLWindGas$Cond;)V" } : Jvm.MethodName)) ∈ lw_all := lw_g (lw_at lw_m4 181 rfl) rfl
theorem q993 : (Jvm.Cond.fieldLinkNest "WindGas" (299 : Nat) "WindGas$Row" "parts" "Ljava/util/ArrayList;" "WindGas") ∈ lw_tbl := lw_at lw_m4 190 rfl
theorem q999 : (Jvm.Cond.stringRef "WindGas" (297 : Nat) "and") ∈ lw_tbl := lw_at lw_m4 196 rfl
theorem q1000 : (Jvm.Cond.methodLink "WindGas" (302 : Nat) ({ cls := "java/util/ArrayList", name := "add", desc := "(Ljava/lang/Object;)Z" } : Jvm.MethodName)) ∈ lw_all := lw_g (lw_at lw_m4 197 rfl) rfl
theorem q1001 : (Jvm.Cond.stringRef "WindGas" (307 : Nat) "or") ∈ lw_tbl := lw_at lw_m4 198 rfl
theorem q1002 : (Jvm.Cond.methodLink "WindGas" (340 : Nat) ({ cls := "WindGas", name := "kind", desc := "()I" } : Jvm.MethodName)) ∈ lw_all := lw_g (lw_at lw_m4 199 rfl) rfl
theorem q1003 : (Jvm.Cond.privateMethod ({ cls := "WindGas", name := "kind", desc := "()I" } : Jvm.MethodName)) ∈ lw_tbl := lw_at lw_m4 200 rfl
theorem q1004 : (Jvm.Cond.instanceMethod ({ cls := "WindGas", name := "kind", desc := "()I" } : Jvm.MethodName)) ∈ lw_all := lw_g (lw_at lw_m4 201 rfl) rfl
theorem q1005 : (Jvm.Cond.code ({ cls := "WindGas", name := "kind", desc := "()I" } : Jvm.MethodName) prog_1_method_22_code (1 : Nat) (Option.some Jvm.ClassFile.FieldType.int)) ∈ lw_all := lw_g (lw_at lw_m4 202 rfl) rfl
theorem q1006 : (Jvm.Cond.stringRef "WindGas" (238 : Nat) "stack") ∈ lw_tbl := lw_at lw_m4 203 rfl
theorem q1007 : (Jvm.Cond.stringRef "WindGas" (240 : Nat) "cavern") ∈ lw_tbl := lw_at lw_m4 204 rfl
theorem q1008 : (Jvm.Cond.stringRef "WindGas" (241 : Nat) "house") ∈ lw_tbl := lw_at lw_m4 205 rfl
theorem q1009 : (Jvm.Cond.stringRef "WindGas" (243 : Nat) "quay") ∈ lw_tbl := lw_at lw_m4 206 rfl
theorem q1010 : (Jvm.Cond.stringRef "WindGas" (245 : Nat) "depot") ∈ lw_tbl := lw_at lw_m4 207 rfl
theorem q1011 : (Jvm.Cond.classLink "WindGas" (346 : Nat) "WindGas$Apart") ∈ lw_all := lw_g (lw_at lw_m4 208 rfl) rfl
theorem q1013 : (Jvm.Cond.methodLinkNest "WindGas" (348 : Nat) ({ cls := "WindGas$Apart", name := "<init>", desc := "(IIII)V" } : Jvm.MethodName) "WindGas") ∈ lw_tbl := lw_at lw_m4 210 rfl
theorem q1031 : (Jvm.Cond.instanceMethod ({ cls := "WindGas", name := "fault", desc := "()I" } : Jvm.MethodName)) ∈ lw_all := lw_g (lw_at lw_m4 228 rfl) rfl
theorem q1032 : (Jvm.Cond.selects "WindGas" ({ cls := "WindGas", name := "fault", desc := "()I" } : Jvm.MethodName) ({ cls := "WindGas", name := "fault", desc := "()I" } : Jvm.MethodName)) ∈ lw_all := lw_g (lw_at lw_m4 229 rfl) rfl
theorem q1033 : (Jvm.Cond.code ({ cls := "WindGas", name := "fault", desc := "()I" } : Jvm.MethodName) prog_1_method_30_code (1 : Nat) (Option.some Jvm.ClassFile.FieldType.int)) ∈ lw_all := lw_g (lw_at lw_m4 230 rfl) rfl
theorem q1035 : (Jvm.Cond.instanceMethod ({ cls := "WindGas", name := "store", desc := "(IIII)Z" } : Jvm.MethodName)) ∈ lw_all := lw_g (lw_at lw_m4 232 rfl) rfl
theorem q1036 : (Jvm.Cond.selects "WindGas" ({ cls := "WindGas", name := "store", desc := "(IIII)Z" } : Jvm.MethodName) ({ cls := "WindGas", name := "store", desc := "(IIII)Z" } : Jvm.MethodName)) ∈ lw_all := lw_g (lw_at lw_m4 233 rfl) rfl
theorem q1037 : (Jvm.Cond.code ({ cls := "WindGas", name := "store", desc := "(IIII)Z" } : Jvm.MethodName) prog_1_method_32_code (6 : Nat) (Option.some Jvm.ClassFile.FieldType.boolean)) ∈ lw_all := lw_g (lw_at lw_m4 234 rfl) rfl
theorem q1038 : (Jvm.Cond.methodLink "WindGas" (361 : Nat) ({ cls := "WindGas", name := "storeAt", desc := "(I)LWindGas$Store;" } : Jvm.MethodName)) ∈ lw_all := lw_g (lw_at lw_m4 235 rfl) rfl
theorem q1039 : (Jvm.Cond.privateMethod ({ cls := "WindGas", name := "storeAt", desc := "(I)LWindGas$Store;" } : Jvm.MethodName)) ∈ lw_tbl := lw_at lw_m4 236 rfl
theorem q1040 : (Jvm.Cond.instanceMethod ({ cls := "WindGas", name := "storeAt", desc := "(I)LWindGas$Store;" } : Jvm.MethodName)) ∈ lw_all := lw_g (lw_at lw_m4 237 rfl) rfl
theorem q1041 : (Jvm.Cond.code ({ cls := "WindGas", name := "storeAt", desc := "(I)LWindGas$Store;" } : Jvm.MethodName) prog_1_method_31_code (2 : Nat) (Option.some (Jvm.ClassFile.FieldType.object "WindGas$Store"))) ∈ lw_all := lw_g (lw_at lw_m4 238 rfl) rfl
theorem q1042 : (Jvm.Cond.constantLong "WindGas" (368 : Nat) (1000000 : Int64)) ∈ lw_all := lw_g (lw_at lw_m4 239 rfl) rfl
theorem q1043 : (Jvm.Cond.constantLong "WindGas" (370 : Nat) (100 : Int64)) ∈ lw_all := lw_g (lw_at lw_m5 0 rfl) rfl
theorem q1045 : (Jvm.Cond.instanceMethod ({ cls := "WindGas", name := "storeOf", desc := "(II)J" } : Jvm.MethodName)) ∈ lw_all := lw_g (lw_at lw_m5 2 rfl) rfl
theorem q1046 : (Jvm.Cond.selects "WindGas" ({ cls := "WindGas", name := "storeOf", desc := "(II)J" } : Jvm.MethodName) ({ cls := "WindGas", name := "storeOf", desc := "(II)J" } : Jvm.MethodName)) ∈ lw_all := lw_g (lw_at lw_m5 3 rfl) rfl
theorem q1047 : (Jvm.Cond.code ({ cls := "WindGas", name := "storeOf", desc := "(II)J" } : Jvm.MethodName) prog_1_method_33_code (4 : Nat) (Option.some Jvm.ClassFile.FieldType.long)) ∈ lw_all := lw_g (lw_at lw_m5 4 rfl) rfl
theorem q1048 : (Jvm.Cond.constantLong "WindGas" (381 : Nat) (-1 : Int64)) ∈ lw_all := lw_g (lw_at lw_m5 5 rfl) rfl
theorem q1049 : (Jvm.Cond.methodLink "WindGas" (383 : Nat) ({ cls := "WindGas$Store", name := "foul", desc := "()I" } : Jvm.MethodName)) ∈ lw_all := lw_g (lw_at lw_m5 6 rfl) rfl
theorem q1057 : (Jvm.Cond.instanceMethod ({ cls := "WindGas", name := "lot", desc := "(III)I" } : Jvm.MethodName)) ∈ lw_all := lw_g (lw_at lw_m5 14 rfl) rfl
theorem q1058 : (Jvm.Cond.selects "WindGas" ({ cls := "WindGas", name := "lot", desc := "(III)I" } : Jvm.MethodName) ({ cls := "WindGas", name := "lot", desc := "(III)I" } : Jvm.MethodName)) ∈ lw_all := lw_g (lw_at lw_m5 15 rfl) rfl
theorem q1059 : (Jvm.Cond.code ({ cls := "WindGas", name := "lot", desc := "(III)I" } : Jvm.MethodName) prog_1_method_34_code (6 : Nat) (Option.some Jvm.ClassFile.FieldType.int)) ∈ lw_all := lw_g (lw_at lw_m5 16 rfl) rfl
theorem q1060 : (Jvm.Cond.classLink "WindGas" (396 : Nat) "WindGas$Lot") ∈ lw_all := lw_g (lw_at lw_m5 17 rfl) rfl
theorem q1062 : (Jvm.Cond.instanceMethod ({ cls := "WindGas", name := "meter", desc := "(III)I" } : Jvm.MethodName)) ∈ lw_all := lw_g (lw_at lw_m5 19 rfl) rfl
theorem q1063 : (Jvm.Cond.selects "WindGas" ({ cls := "WindGas", name := "meter", desc := "(III)I" } : Jvm.MethodName) ({ cls := "WindGas", name := "meter", desc := "(III)I" } : Jvm.MethodName)) ∈ lw_all := lw_g (lw_at lw_m5 20 rfl) rfl
theorem q1064 : (Jvm.Cond.code ({ cls := "WindGas", name := "meter", desc := "(III)I" } : Jvm.MethodName) prog_1_method_35_code (7 : Nat) (Option.some Jvm.ClassFile.FieldType.int)) ∈ lw_all := lw_g (lw_at lw_m5 21 rfl) rfl
theorem q1065 : (Jvm.Cond.constantLong "WindGas" (403 : Nat) (50 : Int64)) ∈ lw_all := lw_g (lw_at lw_m5 22 rfl) rfl
theorem q1066 : (Jvm.Cond.methodLink "WindGas" (405 : Nat) ({ cls := "WindGas$Store", name := "takes", desc := "(ILWindGas$Trip;)V" } : Jvm.MethodName)) ∈ lw_all := lw_g (lw_at lw_m5 23 rfl) rfl
theorem q1103 : (Jvm.Cond.instanceMethod ({ cls := "WindGas", name := "stack", desc := "(III)I" } : Jvm.MethodName)) ∈ lw_all := lw_g (lw_at lw_m5 60 rfl) rfl
theorem q1104 : (Jvm.Cond.selects "WindGas" ({ cls := "WindGas", name := "stack", desc := "(III)I" } : Jvm.MethodName) ({ cls := "WindGas", name := "stack", desc := "(III)I" } : Jvm.MethodName)) ∈ lw_all := lw_g (lw_at lw_m5 61 rfl) rfl
theorem q1105 : (Jvm.Cond.code ({ cls := "WindGas", name := "stack", desc := "(III)I" } : Jvm.MethodName) prog_1_method_36_code (4 : Nat) (Option.some Jvm.ClassFile.FieldType.int)) ∈ lw_all := lw_g (lw_at lw_m5 62 rfl) rfl
theorem q1106 : (Jvm.Cond.constantLong "WindGas" (409 : Nat) (10 : Int64)) ∈ lw_all := lw_g (lw_at lw_m5 63 rfl) rfl
theorem q1107 : (Jvm.Cond.constantLong "WindGas" (411 : Nat) (500 : Int64)) ∈ lw_all := lw_g (lw_at lw_m5 64 rfl) rfl
theorem q1108 : (Jvm.Cond.constantLong "WindGas" (413 : Nat) (20 : Int64)) ∈ lw_all := lw_g (lw_at lw_m5 65 rfl) rfl
theorem q1109 : (Jvm.Cond.constantLong "WindGas" (415 : Nat) (200 : Int64)) ∈ lw_all := lw_g (lw_at lw_m5 66 rfl) rfl
theorem q1110 : (Jvm.Cond.classLink "WindGas" (417 : Nat) "WindGas$Stack") ∈ lw_all := lw_g (lw_at lw_m5 67 rfl) rfl
theorem q1112 : (Jvm.Cond.methodLink "WindGas" (419 : Nat) ({ cls := "WindGas$Stack", name := "<init>", desc := "(IIII)V" } : Jvm.MethodName)) ∈ lw_all := lw_g (lw_at lw_m5 69 rfl) rfl
theorem q1117 : (Jvm.Cond.fieldLinkNest "WindGas" (628 : Nat) "WindGas$Stack" "number" "I" "WindGas") ∈ lw_tbl := lw_at lw_m5 74 rfl
theorem q1119 : (Jvm.Cond.fieldLinkNest "WindGas" (448 : Nat) "WindGas$Stack" "size" "I" "WindGas") ∈ lw_tbl := lw_at lw_m5 76 rfl
theorem q1123 : (Jvm.Cond.fieldLinkNest "WindGas" (435 : Nat) "WindGas$Stack" "wear" "I" "WindGas") ∈ lw_tbl := lw_at lw_m5 80 rfl
theorem q1124 : (Jvm.Cond.fieldLinkNest "WindGas" (441 : Nat) "WindGas$Stack" "startsToday" "I" "WindGas") ∈ lw_tbl := lw_at lw_m5 81 rfl
theorem q1125 : (Jvm.Cond.fieldLinkNest "WindGas" (444 : Nat) "WindGas$Stack" "starts" "I" "WindGas") ∈ lw_tbl := lw_at lw_m5 82 rfl
theorem q1126 : (Jvm.Cond.fieldLinkNest "WindGas" (428 : Nat) "WindGas$Stack" "isOn" "Z" "WindGas") ∈ lw_tbl := lw_at lw_m5 83 rfl
theorem q1127 : (Jvm.Cond.fieldLinkNest "WindGas" (458 : Nat) "WindGas$Stack" "made" "J" "WindGas") ∈ lw_tbl := lw_at lw_m5 84 rfl
theorem q1148 : (Jvm.Cond.instanceMethod ({ cls := "WindGas", name := "tank", desc := "(II)Z" } : Jvm.MethodName)) ∈ lw_all := lw_g (lw_at lw_m5 105 rfl) rfl
theorem q1149 : (Jvm.Cond.selects "WindGas" ({ cls := "WindGas", name := "tank", desc := "(II)Z" } : Jvm.MethodName) ({ cls := "WindGas", name := "tank", desc := "(II)Z" } : Jvm.MethodName)) ∈ lw_all := lw_g (lw_at lw_m5 106 rfl) rfl
theorem q1150 : (Jvm.Cond.code ({ cls := "WindGas", name := "tank", desc := "(II)Z" } : Jvm.MethodName) prog_1_method_37_code (3 : Nat) (Option.some Jvm.ClassFile.FieldType.boolean)) ∈ lw_all := lw_g (lw_at lw_m5 107 rfl) rfl
theorem q1151 : (Jvm.Cond.constantLong "WindGas" (420 : Nat) (100000 : Int64)) ∈ lw_all := lw_g (lw_at lw_m5 108 rfl) rfl
theorem q1153 : (Jvm.Cond.instanceMethod ({ cls := "WindGas", name := "pass", desc := "(I)I" } : Jvm.MethodName)) ∈ lw_all := lw_g (lw_at lw_m5 110 rfl) rfl
theorem q1154 : (Jvm.Cond.selects "WindGas" ({ cls := "WindGas", name := "pass", desc := "(I)I" } : Jvm.MethodName) ({ cls := "WindGas", name := "pass", desc := "(I)I" } : Jvm.MethodName)) ∈ lw_all := lw_g (lw_at lw_m5 111 rfl) rfl
theorem q1155 : (Jvm.Cond.code ({ cls := "WindGas", name := "pass", desc := "(I)I" } : Jvm.MethodName) prog_1_method_46_code (3 : Nat) (Option.some Jvm.ClassFile.FieldType.int)) ∈ lw_all := lw_g (lw_at lw_m5 112 rfl) rfl
theorem q1156 : (Jvm.Cond.methodLink "WindGas" (527 : Nat) ({ cls := "WindGas", name := "ten", desc := "()V" } : Jvm.MethodName)) ∈ lw_all := lw_g (lw_at lw_m5 113 rfl) rfl
theorem q1157 : (Jvm.Cond.privateMethod ({ cls := "WindGas", name := "ten", desc := "()V" } : Jvm.MethodName)) ∈ lw_tbl := lw_at lw_m5 114 rfl
theorem q1158 : (Jvm.Cond.instanceMethod ({ cls := "WindGas", name := "ten", desc := "()V" } : Jvm.MethodName)) ∈ lw_all := lw_g (lw_at lw_m5 115 rfl) rfl
theorem q1159 : (Jvm.Cond.code ({ cls := "WindGas", name := "ten", desc := "()V" } : Jvm.MethodName) prog_1_method_45_code (8 : Nat) (Option.none : Option Jvm.ClassFile.FieldType)) ∈ lw_all := lw_g (lw_at lw_m5 116 rfl) rfl
theorem q1160 : (Jvm.Cond.methodLink "WindGas" (471 : Nat) ({ cls := "WindGas", name := "runs", desc := "()I" } : Jvm.MethodName)) ∈ lw_all := lw_g (lw_at lw_m5 117 rfl) rfl
theorem q1161 : (Jvm.Cond.privateMethod ({ cls := "WindGas", name := "runs", desc := "()I" } : Jvm.MethodName)) ∈ lw_tbl := lw_at lw_m5 118 rfl
theorem q1162 : (Jvm.Cond.instanceMethod ({ cls := "WindGas", name := "runs", desc := "()I" } : Jvm.MethodName)) ∈ lw_all := lw_g (lw_at lw_m5 119 rfl) rfl
theorem q1163 : (Jvm.Cond.code ({ cls := "WindGas", name := "runs", desc := "()I" } : Jvm.MethodName) prog_1_method_38_code (3 : Nat) (Option.some Jvm.ClassFile.FieldType.int)) ∈ lw_all := lw_g (lw_at lw_m5 120 rfl) rfl
theorem q1164 : (Jvm.Cond.methodLink "WindGas" (474 : Nat) ({ cls := "WindGas", name := "asked", desc := "(IJJJ)V" } : Jvm.MethodName)) ∈ lw_all := lw_g (lw_at lw_m5 121 rfl) rfl
theorem q1165 : (Jvm.Cond.privateMethod ({ cls := "WindGas", name := "asked", desc := "(IJJJ)V" } : Jvm.MethodName)) ∈ lw_tbl := lw_at lw_m5 122 rfl
theorem q1166 : (Jvm.Cond.instanceMethod ({ cls := "WindGas", name := "asked", desc := "(IJJJ)V" } : Jvm.MethodName)) ∈ lw_all := lw_g (lw_at lw_m5 123 rfl) rfl
theorem q1167 : (Jvm.Cond.code ({ cls := "WindGas", name := "asked", desc := "(IJJJ)V" } : Jvm.MethodName) prog_1_method_39_code (8 : Nat) (Option.none : Option Jvm.ClassFile.FieldType)) ∈ lw_all := lw_g (lw_at lw_m5 124 rfl) rfl
theorem q1168 : (Jvm.Cond.methodLink "WindGas" (478 : Nat) ({ cls := "WindGas$Rules", name := "any", desc := "(Ljava/util/ArrayList;[J)Z" } : Jvm.MethodName)) ∈ lw_all := lw_g (lw_at lw_m5 125 rfl) rfl
theorem q1203 : (Jvm.Cond.methodLink "WindGas" (484 : Nat) ({ cls := "WindGas", name := "splits", desc := "(LWindGas$Rules;I)I" } : Jvm.MethodName)) ∈ lw_all := lw_g (lw_at lw_m5 160 rfl) rfl
theorem q1204 : (Jvm.Cond.privateMethod ({ cls := "WindGas", name := "splits", desc := "(LWindGas$Rules;I)I" } : Jvm.MethodName)) ∈ lw_tbl := lw_at lw_m5 161 rfl
theorem q1205 : (Jvm.Cond.instanceMethod ({ cls := "WindGas", name := "splits", desc := "(LWindGas$Rules;I)I" } : Jvm.MethodName)) ∈ lw_all := lw_g (lw_at lw_m5 162 rfl) rfl
theorem q1206 : (Jvm.Cond.code ({ cls := "WindGas", name := "splits", desc := "(LWindGas$Rules;I)I" } : Jvm.MethodName) prog_1_method_43_code (5 : Nat) (Option.some Jvm.ClassFile.FieldType.int)) ∈ lw_all := lw_g (lw_at lw_m5 163 rfl) rfl
theorem q1207 : (Jvm.Cond.methodLink "WindGas" (461 : Nat) ({ cls := "WindGas", name := "orders", desc := "(LWindGas$Rules;)V" } : Jvm.MethodName)) ∈ lw_all := lw_g (lw_at lw_m5 164 rfl) rfl
theorem q1208 : (Jvm.Cond.privateMethod ({ cls := "WindGas", name := "orders", desc := "(LWindGas$Rules;)V" } : Jvm.MethodName)) ∈ lw_tbl := lw_at lw_m5 165 rfl
theorem q1209 : (Jvm.Cond.instanceMethod ({ cls := "WindGas", name := "orders", desc := "(LWindGas$Rules;)V" } : Jvm.MethodName)) ∈ lw_all := lw_g (lw_at lw_m5 166 rfl) rfl
theorem q1210 : (Jvm.Cond.code ({ cls := "WindGas", name := "orders", desc := "(LWindGas$Rules;)V" } : Jvm.MethodName) prog_1_method_40_code (4 : Nat) (Option.none : Option Jvm.ClassFile.FieldType)) ∈ lw_all := lw_g (lw_at lw_m5 167 rfl) rfl
theorem q1211 : (Jvm.Cond.methodLink "WindGas" (431 : Nat) ({ cls := "WindGas", name := "isAhead", desc := "(LWindGas$Rules;LWindGas$Stack;LWindGas$Stack;)Z" } : Jvm.MethodName)) ∈ lw_all := lw_g (lw_at lw_m5 168 rfl) rfl
theorem q1212 : (Jvm.Cond.static ({ cls := "WindGas", name := "isAhead", desc := "(LWindGas$Rules;LWindGas$Stack;LWindGas$Stack;)Z" } : Jvm.MethodName)) ∈ lw_all := lw_g (lw_at lw_m5 169 rfl) rfl
theorem q1213 : (Jvm.Cond.code ({ cls := "WindGas", name := "isAhead", desc := "(LWindGas$Rules;LWindGas$Stack;LWindGas$Stack;)Z" } : Jvm.MethodName) prog_1_method_41_code (3 : Nat) (Option.some Jvm.ClassFile.FieldType.boolean)) ∈ lw_all := lw_g (lw_at lw_m5 170 rfl) rfl
theorem q1214 : (Jvm.Cond.methodLink "WindGas" (464 : Nat) ({ cls := "WindGas", name := "works", desc := "(LWindGas$Stack;LWindGas$Rules;I)I" } : Jvm.MethodName)) ∈ lw_all := lw_g (lw_at lw_m5 171 rfl) rfl
theorem q1215 : (Jvm.Cond.privateMethod ({ cls := "WindGas", name := "works", desc := "(LWindGas$Stack;LWindGas$Rules;I)I" } : Jvm.MethodName)) ∈ lw_tbl := lw_at lw_m5 172 rfl
theorem q1216 : (Jvm.Cond.instanceMethod ({ cls := "WindGas", name := "works", desc := "(LWindGas$Stack;LWindGas$Rules;I)I" } : Jvm.MethodName)) ∈ lw_all := lw_g (lw_at lw_m5 173 rfl) rfl
theorem q1217 : (Jvm.Cond.code ({ cls := "WindGas", name := "works", desc := "(LWindGas$Stack;LWindGas$Rules;I)I" } : Jvm.MethodName) prog_1_method_42_code (8 : Nat) (Option.some Jvm.ClassFile.FieldType.int)) ∈ lw_all := lw_g (lw_at lw_m5 174 rfl) rfl
theorem q1218 : (Jvm.Cond.methodLink "WindGas" (438 : Nat) ({ cls := "WindGas$Stack", name := "least", desc := "(LWindGas$Rules;)I" } : Jvm.MethodName)) ∈ lw_all := lw_g (lw_at lw_m5 175 rfl) rfl
theorem q1223 : (Jvm.Cond.methodLink "WindGas" (445 : Nat) ({ cls := "WindGas$Stack", name := "wears", desc := "(I)V" } : Jvm.MethodName)) ∈ lw_all := lw_g (lw_at lw_m5 180 rfl) rfl
theorem q1229 : (Jvm.Cond.methodLink "WindGas" (450 : Nat) ({ cls := "WindGas$Stack", name := "gas", desc := "(I)I" } : Jvm.MethodName)) ∈ lw_all := lw_g (lw_at lw_m5 186 rfl) rfl
theorem q1233 : (Jvm.Cond.methodLink "WindGas" (456 : Nat) ({ cls := "WindGas$Stack", name := "foul", desc := "(I)I" } : Jvm.MethodName)) ∈ lw_all := lw_g (lw_at lw_m5 190 rfl) rfl
theorem q1238 : (Jvm.Cond.constant "WindGas" (501 : Nat) (1000000 : Int32)) ∈ lw_all := lw_g (lw_at lw_m5 195 rfl) rfl
theorem q1239 : (Jvm.Cond.methodLink "WindGas" (502 : Nat) ({ cls := "WindGas", name := "fills", desc := "(LWindGas$Store;I)V" } : Jvm.MethodName)) ∈ lw_all := lw_g (lw_at lw_m5 196 rfl) rfl
theorem q1240 : (Jvm.Cond.privateMethod ({ cls := "WindGas", name := "fills", desc := "(LWindGas$Store;I)V" } : Jvm.MethodName)) ∈ lw_tbl := lw_at lw_m5 197 rfl
theorem q1241 : (Jvm.Cond.instanceMethod ({ cls := "WindGas", name := "fills", desc := "(LWindGas$Store;I)V" } : Jvm.MethodName)) ∈ lw_all := lw_g (lw_at lw_m5 198 rfl) rfl
theorem q1242 : (Jvm.Cond.code ({ cls := "WindGas", name := "fills", desc := "(LWindGas$Store;I)V" } : Jvm.MethodName) prog_1_method_44_code (5 : Nat) (Option.none : Option Jvm.ClassFile.FieldType)) ∈ lw_all := lw_g (lw_at lw_m5 199 rfl) rfl
theorem q1243 : (Jvm.Cond.methodLink "WindGas" (468 : Nat) ({ cls := "WindGas$Store", name := "adds", desc := "(III)V" } : Jvm.MethodName)) ∈ lw_all := lw_g (lw_at lw_m5 200 rfl) rfl
theorem q1258 : (Jvm.Cond.fieldLinkNest "WindGas" (398 : Nat) "WindGas$Lot" "hour" "I" "WindGas") ∈ lw_tbl := lw_at lw_m5 215 rfl
theorem q1261 : (Jvm.Cond.fieldLinkNest "WindGas" (400 : Nat) "WindGas$Lot" "grams" "I" "WindGas") ∈ lw_tbl := lw_at lw_m5 218 rfl
theorem q1264 : (Jvm.Cond.fieldLinkNest "WindGas" (401 : Nat) "WindGas$Lot" "foul" "I" "WindGas") ∈ lw_tbl := lw_at lw_m5 221 rfl
theorem q1272 : (Jvm.Cond.classLink "WindGas" (518 : Nat) "WindGas$Trip") ∈ lw_all := lw_g (lw_at lw_m5 229 rfl) rfl
theorem q1273 : (Jvm.Cond.methodLink "WindGas" (520 : Nat) ({ cls := "WindGas", name := "tries", desc := "(LWindGas$Trip;LWindGas$Rules;)V" } : Jvm.MethodName)) ∈ lw_all := lw_g (lw_at lw_m5 230 rfl) rfl
theorem q1274 : (Jvm.Cond.privateMethod ({ cls := "WindGas", name := "tries", desc := "(LWindGas$Trip;LWindGas$Rules;)V" } : Jvm.MethodName)) ∈ lw_tbl := lw_at lw_m5 231 rfl
theorem q1275 : (Jvm.Cond.instanceMethod ({ cls := "WindGas", name := "tries", desc := "(LWindGas$Trip;LWindGas$Rules;)V" } : Jvm.MethodName)) ∈ lw_all := lw_g (lw_at lw_m5 232 rfl) rfl
theorem q1276 : (Jvm.Cond.code ({ cls := "WindGas", name := "tries", desc := "(LWindGas$Trip;LWindGas$Rules;)V" } : Jvm.MethodName) prog_1_method_49_code (6 : Nat) (Option.none : Option Jvm.ClassFile.FieldType)) ∈ lw_all := lw_g (lw_at lw_m5 233 rfl) rfl
theorem q1277 : (Jvm.Cond.methodLink "WindGas" (539 : Nat) ({ cls := "WindGas$Store", name := "foulOf", desc := "(I)I" } : Jvm.MethodName)) ∈ lw_all := lw_g (lw_at lw_m5 234 rfl) rfl
theorem q1282 : (Jvm.Cond.constantLong "WindGas" (542 : Nat) (10000 : Int64)) ∈ lw_all := lw_g (lw_at lw_m5 239 rfl) rfl
theorem q1283 : (Jvm.Cond.methodLink "WindGas" (551 : Nat) ({ cls := "WindGas$Trip", name := "last", desc := "()I" } : Jvm.MethodName)) ∈ lw_all := lw_g (lw_at lw_m6 0 rfl) rfl
theorem q1287 : (Jvm.Cond.methodLink "WindGas" (524 : Nat) ({ cls := "WindGas$Store", name := "leaks", desc := "()V" } : Jvm.MethodName)) ∈ lw_all := lw_g (lw_at lw_m6 4 rfl) rfl
theorem q1294 : (Jvm.Cond.instanceMethod ({ cls := "WindGas", name := "stackOf", desc := "(II)J" } : Jvm.MethodName)) ∈ lw_all := lw_g (lw_at lw_m6 11 rfl) rfl
theorem q1295 : (Jvm.Cond.selects "WindGas" ({ cls := "WindGas", name := "stackOf", desc := "(II)J" } : Jvm.MethodName) ({ cls := "WindGas", name := "stackOf", desc := "(II)J" } : Jvm.MethodName)) ∈ lw_all := lw_g (lw_at lw_m6 12 rfl) rfl
theorem q1296 : (Jvm.Cond.code ({ cls := "WindGas", name := "stackOf", desc := "(II)J" } : Jvm.MethodName) prog_1_method_47_code (4 : Nat) (Option.some Jvm.ClassFile.FieldType.long)) ∈ lw_all := lw_g (lw_at lw_m6 13 rfl) rfl
theorem q1298 : (Jvm.Cond.instanceMethod ({ cls := "WindGas", name := "trip", desc := "(III)I" } : Jvm.MethodName)) ∈ lw_all := lw_g (lw_at lw_m6 15 rfl) rfl
theorem q1299 : (Jvm.Cond.selects "WindGas" ({ cls := "WindGas", name := "trip", desc := "(III)I" } : Jvm.MethodName) ({ cls := "WindGas", name := "trip", desc := "(III)I" } : Jvm.MethodName)) ∈ lw_all := lw_g (lw_at lw_m6 16 rfl) rfl
theorem q1300 : (Jvm.Cond.code ({ cls := "WindGas", name := "trip", desc := "(III)I" } : Jvm.MethodName) prog_1_method_48_code (4 : Nat) (Option.some Jvm.ClassFile.FieldType.int)) ∈ lw_all := lw_g (lw_at lw_m6 17 rfl) rfl
theorem q1301 : (Jvm.Cond.constantLong "WindGas" (530 : Nat) (50000 : Int64)) ∈ lw_all := lw_g (lw_at lw_m6 18 rfl) rfl
theorem q1303 : (Jvm.Cond.methodLink "WindGas" (532 : Nat) ({ cls := "WindGas$Trip", name := "<init>", desc := "(III)V" } : Jvm.MethodName)) ∈ lw_all := lw_g (lw_at lw_m6 20 rfl) rfl
theorem q1310 : (Jvm.Cond.fieldLinkNest "WindGas" (575 : Nat) "WindGas$Trip" "kind" "I" "WindGas") ∈ lw_tbl := lw_at lw_m6 27 rfl
theorem q1312 : (Jvm.Cond.fieldLinkNest "WindGas" (536 : Nat) "WindGas$Trip" "ten" "I" "WindGas") ∈ lw_tbl := lw_at lw_m6 29 rfl
theorem q1314 : (Jvm.Cond.fieldLinkNest "WindGas" (538 : Nat) "WindGas$Trip" "grams" "I" "WindGas") ∈ lw_tbl := lw_at lw_m6 31 rfl
theorem q1317 : (Jvm.Cond.fieldLinkNest "WindGas" (562 : Nat) "WindGas$Trip" "sips" "Ljava/util/ArrayList;" "WindGas") ∈ lw_tbl := lw_at lw_m6 34 rfl
theorem q1318 : (Jvm.Cond.fieldLinkNest "WindGas" (533 : Nat) "WindGas$Trip" "how" "I" "WindGas") ∈ lw_tbl := lw_at lw_m6 35 rfl
theorem q1320 : (Jvm.Cond.fieldLinkNest "WindGas" (547 : Nat) "WindGas$Trip" "left" "I" "WindGas") ∈ lw_tbl := lw_at lw_m6 37 rfl
theorem q1321 : (Jvm.Cond.fieldLinkNest "WindGas" (550 : Nat) "WindGas$Trip" "foul" "I" "WindGas") ∈ lw_tbl := lw_at lw_m6 38 rfl
theorem q1338 : (Jvm.Cond.instanceMethod ({ cls := "WindGas", name := "green", desc := "(I)I" } : Jvm.MethodName)) ∈ lw_all := lw_g (lw_at lw_m6 55 rfl) rfl
theorem q1339 : (Jvm.Cond.selects "WindGas" ({ cls := "WindGas", name := "green", desc := "(I)I" } : Jvm.MethodName) ({ cls := "WindGas", name := "green", desc := "(I)I" } : Jvm.MethodName)) ∈ lw_all := lw_g (lw_at lw_m6 56 rfl) rfl
theorem q1340 : (Jvm.Cond.code ({ cls := "WindGas", name := "green", desc := "(I)I" } : Jvm.MethodName) prog_1_method_53_code (2 : Nat) (Option.some Jvm.ClassFile.FieldType.int)) ∈ lw_all := lw_g (lw_at lw_m6 57 rfl) rfl
theorem q1341 : (Jvm.Cond.methodLink "WindGas" (556 : Nat) ({ cls := "WindGas", name := "isHour", desc := "(I)Z" } : Jvm.MethodName)) ∈ lw_all := lw_g (lw_at lw_m6 58 rfl) rfl
theorem q1342 : (Jvm.Cond.privateMethod ({ cls := "WindGas", name := "isHour", desc := "(I)Z" } : Jvm.MethodName)) ∈ lw_tbl := lw_at lw_m6 59 rfl
theorem q1343 : (Jvm.Cond.instanceMethod ({ cls := "WindGas", name := "isHour", desc := "(I)Z" } : Jvm.MethodName)) ∈ lw_all := lw_g (lw_at lw_m6 60 rfl) rfl
theorem q1344 : (Jvm.Cond.code ({ cls := "WindGas", name := "isHour", desc := "(I)Z" } : Jvm.MethodName) prog_1_method_51_code (2 : Nat) (Option.some Jvm.ClassFile.FieldType.boolean)) ∈ lw_all := lw_g (lw_at lw_m6 61 rfl) rfl
theorem q1345 : (Jvm.Cond.constantLong "WindGas" (554 : Nat) (833 : Int64)) ∈ lw_all := lw_g (lw_at lw_m6 62 rfl) rfl
theorem q1346 : (Jvm.Cond.methodLink "WindGas" (559 : Nat) ({ cls := "WindGas", name := "isGreen", desc := "(I)Z" } : Jvm.MethodName)) ∈ lw_all := lw_g (lw_at lw_m6 63 rfl) rfl
theorem q1347 : (Jvm.Cond.privateMethod ({ cls := "WindGas", name := "isGreen", desc := "(I)Z" } : Jvm.MethodName)) ∈ lw_tbl := lw_at lw_m6 64 rfl
theorem q1348 : (Jvm.Cond.instanceMethod ({ cls := "WindGas", name := "isGreen", desc := "(I)Z" } : Jvm.MethodName)) ∈ lw_all := lw_g (lw_at lw_m6 65 rfl) rfl
theorem q1349 : (Jvm.Cond.code ({ cls := "WindGas", name := "isGreen", desc := "(I)Z" } : Jvm.MethodName) prog_1_method_52_code (3 : Nat) (Option.some Jvm.ClassFile.FieldType.boolean)) ∈ lw_all := lw_g (lw_at lw_m6 66 rfl) rfl
theorem q1351 : (Jvm.Cond.instanceMethod ({ cls := "WindGas", name := "tripOf", desc := "(II)I" } : Jvm.MethodName)) ∈ lw_all := lw_g (lw_at lw_m6 68 rfl) rfl
theorem q1352 : (Jvm.Cond.selects "WindGas" ({ cls := "WindGas", name := "tripOf", desc := "(II)I" } : Jvm.MethodName) ({ cls := "WindGas", name := "tripOf", desc := "(II)I" } : Jvm.MethodName)) ∈ lw_all := lw_g (lw_at lw_m6 69 rfl) rfl
theorem q1353 : (Jvm.Cond.code ({ cls := "WindGas", name := "tripOf", desc := "(II)I" } : Jvm.MethodName) prog_1_method_56_code (4 : Nat) (Option.some Jvm.ClassFile.FieldType.int)) ∈ lw_all := lw_g (lw_at lw_m6 70 rfl) rfl
theorem q1354 : (Jvm.Cond.methodLink "WindGas" (571 : Nat) ({ cls := "WindGas", name := "tripAt", desc := "(I)LWindGas$Trip;" } : Jvm.MethodName)) ∈ lw_all := lw_g (lw_at lw_m6 71 rfl) rfl
theorem q1355 : (Jvm.Cond.privateMethod ({ cls := "WindGas", name := "tripAt", desc := "(I)LWindGas$Trip;" } : Jvm.MethodName)) ∈ lw_tbl := lw_at lw_m6 72 rfl
theorem q1356 : (Jvm.Cond.instanceMethod ({ cls := "WindGas", name := "tripAt", desc := "(I)LWindGas$Trip;" } : Jvm.MethodName)) ∈ lw_all := lw_g (lw_at lw_m6 73 rfl) rfl
theorem q1357 : (Jvm.Cond.code ({ cls := "WindGas", name := "tripAt", desc := "(I)LWindGas$Trip;" } : Jvm.MethodName) prog_1_method_50_code (2 : Nat) (Option.some (Jvm.ClassFile.FieldType.object "WindGas$Trip"))) ∈ lw_all := lw_g (lw_at lw_m6 74 rfl) rfl
theorem q1358 : (Jvm.Cond.methodLink "WindGas" (577 : Nat) ({ cls := "WindGas", name := "proved", desc := "(LWindGas$Trip;)I" } : Jvm.MethodName)) ∈ lw_all := lw_g (lw_at lw_m6 75 rfl) rfl
theorem q1359 : (Jvm.Cond.privateMethod ({ cls := "WindGas", name := "proved", desc := "(LWindGas$Trip;)I" } : Jvm.MethodName)) ∈ lw_tbl := lw_at lw_m6 76 rfl
theorem q1360 : (Jvm.Cond.instanceMethod ({ cls := "WindGas", name := "proved", desc := "(LWindGas$Trip;)I" } : Jvm.MethodName)) ∈ lw_all := lw_g (lw_at lw_m6 77 rfl) rfl
theorem q1361 : (Jvm.Cond.code ({ cls := "WindGas", name := "proved", desc := "(LWindGas$Trip;)I" } : Jvm.MethodName) prog_1_method_54_code (4 : Nat) (Option.some Jvm.ClassFile.FieldType.int)) ∈ lw_all := lw_g (lw_at lw_m6 78 rfl) rfl
theorem q1362 : (Jvm.Cond.classLink "WindGas" (565 : Nat) "WindGas$Sip") ∈ lw_all := lw_g (lw_at lw_m6 79 rfl) rfl
theorem q1363 : (Jvm.Cond.methodLink "WindGas" (567 : Nat) ({ cls := "WindGas$Sip", name := "hour", desc := "()I" } : Jvm.MethodName)) ∈ lw_all := lw_g (lw_at lw_m6 80 rfl) rfl
theorem q1367 : (Jvm.Cond.methodLink "WindGas" (569 : Nat) ({ cls := "WindGas$Sip", name := "grams", desc := "()I" } : Jvm.MethodName)) ∈ lw_all := lw_g (lw_at lw_m6 84 rfl) rfl
theorem q1371 : (Jvm.Cond.methodLink "WindGas" (581 : Nat) ({ cls := "WindGas", name := "hoursOf", desc := "(LWindGas$Trip;)I" } : Jvm.MethodName)) ∈ lw_all := lw_g (lw_at lw_m6 88 rfl) rfl
theorem q1372 : (Jvm.Cond.static ({ cls := "WindGas", name := "hoursOf", desc := "(LWindGas$Trip;)I" } : Jvm.MethodName)) ∈ lw_all := lw_g (lw_at lw_m6 89 rfl) rfl
theorem q1373 : (Jvm.Cond.code ({ cls := "WindGas", name := "hoursOf", desc := "(LWindGas$Trip;)I" } : Jvm.MethodName) prog_1_method_55_code (5 : Nat) (Option.some Jvm.ClassFile.FieldType.int)) ∈ lw_all := lw_g (lw_at lw_m6 90 rfl) rfl
theorem q1375 : (Jvm.Cond.instanceMethod ({ cls := "WindGas", name := "drank", desc := "(II)I" } : Jvm.MethodName)) ∈ lw_all := lw_g (lw_at lw_m6 92 rfl) rfl
theorem q1376 : (Jvm.Cond.selects "WindGas" ({ cls := "WindGas", name := "drank", desc := "(II)I" } : Jvm.MethodName) ({ cls := "WindGas", name := "drank", desc := "(II)I" } : Jvm.MethodName)) ∈ lw_all := lw_g (lw_at lw_m6 93 rfl) rfl
theorem q1377 : (Jvm.Cond.code ({ cls := "WindGas", name := "drank", desc := "(II)I" } : Jvm.MethodName) prog_1_method_57_code (3 : Nat) (Option.some Jvm.ClassFile.FieldType.int)) ∈ lw_all := lw_g (lw_at lw_m6 94 rfl) rfl
theorem q1378 : (Jvm.Cond.methodLink "WindGas" (584 : Nat) ({ cls := "WindGas$Trip", name := "of", desc := "(I)I" } : Jvm.MethodName)) ∈ lw_all := lw_g (lw_at lw_m6 95 rfl) rfl
theorem q1388 : (Jvm.Cond.instanceMethod ({ cls := "WindGas", name := "paper", desc := "(III)I" } : Jvm.MethodName)) ∈ lw_all := lw_g (lw_at lw_m6 105 rfl) rfl
theorem q1389 : (Jvm.Cond.selects "WindGas" ({ cls := "WindGas", name := "paper", desc := "(III)I" } : Jvm.MethodName) ({ cls := "WindGas", name := "paper", desc := "(III)I" } : Jvm.MethodName)) ∈ lw_all := lw_g (lw_at lw_m6 106 rfl) rfl
theorem q1390 : (Jvm.Cond.code ({ cls := "WindGas", name := "paper", desc := "(III)I" } : Jvm.MethodName) prog_1_method_58_code (5 : Nat) (Option.some Jvm.ClassFile.FieldType.int)) ∈ lw_all := lw_g (lw_at lw_m6 107 rfl) rfl
theorem q1391 : (Jvm.Cond.constantLong "WindGas" (587 : Nat) (9 : Int64)) ∈ lw_all := lw_g (lw_at lw_m6 108 rfl) rfl
theorem q1392 : (Jvm.Cond.classLink "WindGas" (589 : Nat) "WindGas$Paper") ∈ lw_all := lw_g (lw_at lw_m6 109 rfl) rfl
theorem q1394 : (Jvm.Cond.methodLinkNest "WindGas" (591 : Nat) ({ cls := "WindGas$Paper", name := "<init>", desc := "(III)V" } : Jvm.MethodName) "WindGas") ∈ lw_tbl := lw_at lw_m6 111 rfl
theorem q1409 : (Jvm.Cond.instanceMethod ({ cls := "WindGas", name := "paperOf", desc := "(II)I" } : Jvm.MethodName)) ∈ lw_all := lw_g (lw_at lw_m6 126 rfl) rfl
theorem q1410 : (Jvm.Cond.selects "WindGas" ({ cls := "WindGas", name := "paperOf", desc := "(II)I" } : Jvm.MethodName) ({ cls := "WindGas", name := "paperOf", desc := "(II)I" } : Jvm.MethodName)) ∈ lw_all := lw_g (lw_at lw_m6 127 rfl) rfl
theorem q1411 : (Jvm.Cond.code ({ cls := "WindGas", name := "paperOf", desc := "(II)I" } : Jvm.MethodName) prog_1_method_60_code (4 : Nat) (Option.some Jvm.ClassFile.FieldType.int)) ∈ lw_all := lw_g (lw_at lw_m6 128 rfl) rfl
theorem q1412 : (Jvm.Cond.methodLink "WindGas" (592 : Nat) ({ cls := "WindGas$Paper", name := "trip", desc := "()I" } : Jvm.MethodName)) ∈ lw_all := lw_g (lw_at lw_m6 129 rfl) rfl
theorem q1416 : (Jvm.Cond.methodLink "WindGas" (596 : Nat) ({ cls := "WindGas$Paper", name := "buyer", desc := "()I" } : Jvm.MethodName)) ∈ lw_all := lw_g (lw_at lw_m6 133 rfl) rfl
theorem q1420 : (Jvm.Cond.methodLink "WindGas" (595 : Nat) ({ cls := "WindGas$Paper", name := "grams", desc := "()I" } : Jvm.MethodName)) ∈ lw_all := lw_g (lw_at lw_m6 137 rfl) rfl
theorem q1424 : (Jvm.Cond.methodLink "WindGas" (599 : Nat) ({ cls := "WindGas", name := "isValid", desc := "(I)Z" } : Jvm.MethodName)) ∈ lw_all := lw_g (lw_at lw_m6 141 rfl) rfl
theorem q1425 : (Jvm.Cond.privateMethod ({ cls := "WindGas", name := "isValid", desc := "(I)Z" } : Jvm.MethodName)) ∈ lw_tbl := lw_at lw_m6 142 rfl
theorem q1426 : (Jvm.Cond.instanceMethod ({ cls := "WindGas", name := "isValid", desc := "(I)Z" } : Jvm.MethodName)) ∈ lw_all := lw_g (lw_at lw_m6 143 rfl) rfl
theorem q1427 : (Jvm.Cond.code ({ cls := "WindGas", name := "isValid", desc := "(I)Z" } : Jvm.MethodName) prog_1_method_59_code (7 : Nat) (Option.some Jvm.ClassFile.FieldType.boolean)) ∈ lw_all := lw_g (lw_at lw_m6 144 rfl) rfl
theorem q1429 : (Jvm.Cond.instanceMethod ({ cls := "WindGas", name := "place", desc := "(III)I" } : Jvm.MethodName)) ∈ lw_all := lw_g (lw_at lw_m6 146 rfl) rfl
theorem q1430 : (Jvm.Cond.selects "WindGas" ({ cls := "WindGas", name := "place", desc := "(III)I" } : Jvm.MethodName) ({ cls := "WindGas", name := "place", desc := "(III)I" } : Jvm.MethodName)) ∈ lw_all := lw_g (lw_at lw_m6 147 rfl) rfl
theorem q1431 : (Jvm.Cond.code ({ cls := "WindGas", name := "place", desc := "(III)I" } : Jvm.MethodName) prog_1_method_61_code (4 : Nat) (Option.some Jvm.ClassFile.FieldType.int)) ∈ lw_all := lw_g (lw_at lw_m6 148 rfl) rfl
theorem q1432 : (Jvm.Cond.constantLong "WindGas" (602 : Nat) (4 : Int64)) ∈ lw_all := lw_g (lw_at lw_m6 149 rfl) rfl
theorem q1433 : (Jvm.Cond.constantLong "WindGas" (604 : Nat) (99 : Int64)) ∈ lw_all := lw_g (lw_at lw_m6 150 rfl) rfl
theorem q1434 : (Jvm.Cond.classLink "WindGas" (606 : Nat) "WindGas$Place") ∈ lw_all := lw_g (lw_at lw_m6 151 rfl) rfl
theorem q1436 : (Jvm.Cond.methodLinkNest "WindGas" (608 : Nat) ({ cls := "WindGas$Place", name := "<init>", desc := "(III)V" } : Jvm.MethodName) "WindGas") ∈ lw_tbl := lw_at lw_m6 153 rfl
theorem q1451 : (Jvm.Cond.instanceMethod ({ cls := "WindGas", name := "apart", desc := "(I)I" } : Jvm.MethodName)) ∈ lw_all := lw_g (lw_at lw_m6 168 rfl) rfl
theorem q1452 : (Jvm.Cond.selects "WindGas" ({ cls := "WindGas", name := "apart", desc := "(I)I" } : Jvm.MethodName) ({ cls := "WindGas", name := "apart", desc := "(I)I" } : Jvm.MethodName)) ∈ lw_all := lw_g (lw_at lw_m6 169 rfl) rfl
theorem q1453 : (Jvm.Cond.code ({ cls := "WindGas", name := "apart", desc := "(I)I" } : Jvm.MethodName) prog_1_method_63_code (7 : Nat) (Option.some Jvm.ClassFile.FieldType.int)) ∈ lw_all := lw_g (lw_at lw_m6 170 rfl) rfl
theorem q1454 : (Jvm.Cond.methodLink "WindGas" (616 : Nat) ({ cls := "WindGas", name := "isPair", desc := "(LWindGas$Apart;LWindGas$Place;LWindGas$Place;)Z" } : Jvm.MethodName)) ∈ lw_all := lw_g (lw_at lw_m6 171 rfl) rfl
theorem q1455 : (Jvm.Cond.static ({ cls := "WindGas", name := "isPair", desc := "(LWindGas$Apart;LWindGas$Place;LWindGas$Place;)Z" } : Jvm.MethodName)) ∈ lw_all := lw_g (lw_at lw_m6 172 rfl) rfl
theorem q1456 : (Jvm.Cond.code ({ cls := "WindGas", name := "isPair", desc := "(LWindGas$Apart;LWindGas$Place;LWindGas$Place;)Z" } : Jvm.MethodName) prog_1_method_62_code (3 : Nat) (Option.some Jvm.ClassFile.FieldType.boolean)) ∈ lw_all := lw_g (lw_at lw_m6 173 rfl) rfl
theorem q1457 : (Jvm.Cond.methodLink "WindGas" (609 : Nat) ({ cls := "WindGas$Place", name := "kind", desc := "()I" } : Jvm.MethodName)) ∈ lw_all := lw_g (lw_at lw_m6 174 rfl) rfl
theorem q1461 : (Jvm.Cond.methodLink "WindGas" (610 : Nat) ({ cls := "WindGas$Apart", name := "a", desc := "()I" } : Jvm.MethodName)) ∈ lw_all := lw_g (lw_at lw_m6 178 rfl) rfl
theorem q1465 : (Jvm.Cond.methodLink "WindGas" (613 : Nat) ({ cls := "WindGas$Apart", name := "b", desc := "()I" } : Jvm.MethodName)) ∈ lw_all := lw_g (lw_at lw_m6 182 rfl) rfl
theorem q1469 : (Jvm.Cond.methodLink "WindGas" (620 : Nat) ({ cls := "WindGas$Place", name := "far", desc := "(LWindGas$Place;)I" } : Jvm.MethodName)) ∈ lw_all := lw_g (lw_at lw_m6 186 rfl) rfl
theorem q1477 : (Jvm.Cond.methodLink "WindGas" (624 : Nat) ({ cls := "WindGas$Apart", name := "least", desc := "()I" } : Jvm.MethodName)) ∈ lw_all := lw_g (lw_at lw_m6 194 rfl) rfl
theorem q1481 : (Jvm.Cond.methodLink "WindGas" (626 : Nat) ({ cls := "WindGas$Apart", name := "statement", desc := "()I" } : Jvm.MethodName)) ∈ lw_all := lw_g (lw_at lw_m6 198 rfl) rfl
theorem q1486 : (Jvm.Cond.instanceMethod ({ cls := "WindGas", name := "plan", desc := "(III)I" } : Jvm.MethodName)) ∈ lw_all := lw_g (lw_at lw_m6 203 rfl) rfl
theorem q1487 : (Jvm.Cond.selects "WindGas" ({ cls := "WindGas", name := "plan", desc := "(III)I" } : Jvm.MethodName) ({ cls := "WindGas", name := "plan", desc := "(III)I" } : Jvm.MethodName)) ∈ lw_all := lw_g (lw_at lw_m6 204 rfl) rfl
theorem q1488 : (Jvm.Cond.code ({ cls := "WindGas", name := "plan", desc := "(III)I" } : Jvm.MethodName) prog_1_method_67_code (10 : Nat) (Option.some Jvm.ClassFile.FieldType.int)) ∈ lw_all := lw_g (lw_at lw_m6 205 rfl) rfl
theorem q1489 : (Jvm.Cond.constantLong "WindGas" (638 : Nat) (8 : Int64)) ∈ lw_all := lw_g (lw_at lw_m6 206 rfl) rfl
theorem q1490 : (Jvm.Cond.constantLong "WindGas" (640 : Nat) (60 : Int64)) ∈ lw_all := lw_g (lw_at lw_m6 207 rfl) rfl
theorem q1491 : (Jvm.Cond.methodLink "WindGas" (642 : Nat) ({ cls := "WindGas", name := "hundreds", desc := "(IILWindGas$Rules;)I" } : Jvm.MethodName)) ∈ lw_all := lw_g (lw_at lw_m6 208 rfl) rfl
theorem q1492 : (Jvm.Cond.privateMethod ({ cls := "WindGas", name := "hundreds", desc := "(IILWindGas$Rules;)I" } : Jvm.MethodName)) ∈ lw_tbl := lw_at lw_m6 209 rfl
theorem q1493 : (Jvm.Cond.instanceMethod ({ cls := "WindGas", name := "hundreds", desc := "(IILWindGas$Rules;)I" } : Jvm.MethodName)) ∈ lw_all := lw_g (lw_at lw_m6 210 rfl) rfl
theorem q1494 : (Jvm.Cond.code ({ cls := "WindGas", name := "hundreds", desc := "(IILWindGas$Rules;)I" } : Jvm.MethodName) prog_1_method_64_code (9 : Nat) (Option.some Jvm.ClassFile.FieldType.int)) ∈ lw_all := lw_g (lw_at lw_m6 211 rfl) rfl
theorem q1495 : (Jvm.Cond.methodLink "WindGas" (646 : Nat) ({ cls := "WindGas", name := "costOf", desc := "(IIII)I" } : Jvm.MethodName)) ∈ lw_all := lw_g (lw_at lw_m6 212 rfl) rfl
theorem q1496 : (Jvm.Cond.privateMethod ({ cls := "WindGas", name := "costOf", desc := "(IIII)I" } : Jvm.MethodName)) ∈ lw_tbl := lw_at lw_m6 213 rfl
theorem q1497 : (Jvm.Cond.instanceMethod ({ cls := "WindGas", name := "costOf", desc := "(IIII)I" } : Jvm.MethodName)) ∈ lw_all := lw_g (lw_at lw_m6 214 rfl) rfl
theorem q1498 : (Jvm.Cond.code ({ cls := "WindGas", name := "costOf", desc := "(IIII)I" } : Jvm.MethodName) prog_1_method_65_code (6 : Nat) (Option.some Jvm.ClassFile.FieldType.int)) ∈ lw_all := lw_g (lw_at lw_m6 215 rfl) rfl
theorem q1499 : (Jvm.Cond.methodLink "WindGas" (630 : Nat) ({ cls := "java/lang/Integer", name := "bitCount", desc := "(I)I" } : Jvm.MethodName)) ∈ lw_all := lw_g (lw_at lw_m6 216 rfl) rfl
theorem q1505 : (Jvm.Cond.methodLink "WindGas" (635 : Nat) ({ cls := "java/lang/Math", name := "max", desc := "(II)I" } : Jvm.MethodName)) ∈ lw_all := lw_g (lw_at lw_m6 222 rfl) rfl
theorem q1506 : (Jvm.Cond.methodLink "WindGas" (650 : Nat) ({ cls := "WindGas", name := "running", desc := "()I" } : Jvm.MethodName)) ∈ lw_all := lw_g (lw_at lw_m6 223 rfl) rfl
theorem q1507 : (Jvm.Cond.privateMethod ({ cls := "WindGas", name := "running", desc := "()I" } : Jvm.MethodName)) ∈ lw_tbl := lw_at lw_m6 224 rfl
theorem q1508 : (Jvm.Cond.instanceMethod ({ cls := "WindGas", name := "running", desc := "()I" } : Jvm.MethodName)) ∈ lw_all := lw_g (lw_at lw_m6 225 rfl) rfl
theorem q1509 : (Jvm.Cond.code ({ cls := "WindGas", name := "running", desc := "()I" } : Jvm.MethodName) prog_1_method_66_code (3 : Nat) (Option.some Jvm.ClassFile.FieldType.int)) ∈ lw_all := lw_g (lw_at lw_m6 226 rfl) rfl
theorem q1511 : (Jvm.Cond.instanceMethod ({ cls := "WindGas", name := "sum", desc := "(I)J" } : Jvm.MethodName)) ∈ lw_all := lw_g (lw_at lw_m6 228 rfl) rfl
theorem q1512 : (Jvm.Cond.selects "WindGas" ({ cls := "WindGas", name := "sum", desc := "(I)J" } : Jvm.MethodName) ({ cls := "WindGas", name := "sum", desc := "(I)J" } : Jvm.MethodName)) ∈ lw_all := lw_g (lw_at lw_m6 229 rfl) rfl
theorem q1513 : (Jvm.Cond.code ({ cls := "WindGas", name := "sum", desc := "(I)J" } : Jvm.MethodName) prog_1_method_68_code (2 : Nat) (Option.some Jvm.ClassFile.FieldType.long)) ∈ lw_all := lw_g (lw_at lw_m6 230 rfl) rfl
theorem q1514 : (Jvm.Cond.constantLong "WindGas" (652 : Nat) (-1000000000000 : Int64)) ∈ lw_all := lw_g (lw_at lw_m6 231 rfl) rfl
theorem q1516 : (Jvm.Cond.instanceMethod ({ cls := "WindGas", name := "count", desc := "(I)I" } : Jvm.MethodName)) ∈ lw_all := lw_g (lw_at lw_m6 233 rfl) rfl
theorem q1517 : (Jvm.Cond.selects "WindGas" ({ cls := "WindGas", name := "count", desc := "(I)I" } : Jvm.MethodName) ({ cls := "WindGas", name := "count", desc := "(I)I" } : Jvm.MethodName)) ∈ lw_all := lw_g (lw_at lw_m6 234 rfl) rfl
theorem q1518 : (Jvm.Cond.code ({ cls := "WindGas", name := "count", desc := "(I)I" } : Jvm.MethodName) prog_1_method_72_code (2 : Nat) (Option.some Jvm.ClassFile.FieldType.int)) ∈ lw_all := lw_g (lw_at lw_m6 235 rfl) rfl
theorem q1519 : (Jvm.Cond.methodLink "WindGas" (654 : Nat) ({ cls := "WindGas", name := "leftMany", desc := "()I" } : Jvm.MethodName)) ∈ lw_all := lw_g (lw_at lw_m6 236 rfl) rfl
theorem q1520 : (Jvm.Cond.privateMethod ({ cls := "WindGas", name := "leftMany", desc := "()I" } : Jvm.MethodName)) ∈ lw_tbl := lw_at lw_m6 237 rfl
theorem q1521 : (Jvm.Cond.instanceMethod ({ cls := "WindGas", name := "leftMany", desc := "()I" } : Jvm.MethodName)) ∈ lw_all := lw_g (lw_at lw_m6 238 rfl) rfl
theorem q1522 : (Jvm.Cond.code ({ cls := "WindGas", name := "leftMany", desc := "()I" } : Jvm.MethodName) prog_1_method_69_code (3 : Nat) (Option.some Jvm.ClassFile.FieldType.int)) ∈ lw_all := lw_g (lw_at lw_m6 239 rfl) rfl
theorem q1523 : (Jvm.Cond.methodLink "WindGas" (657 : Nat) ({ cls := "WindGas", name := "validMany", desc := "()I" } : Jvm.MethodName)) ∈ lw_all := lw_g (lw_at lw_m7 0 rfl) rfl
theorem q1524 : (Jvm.Cond.privateMethod ({ cls := "WindGas", name := "validMany", desc := "()I" } : Jvm.MethodName)) ∈ lw_tbl := lw_at lw_m7 1 rfl
theorem q1525 : (Jvm.Cond.instanceMethod ({ cls := "WindGas", name := "validMany", desc := "()I" } : Jvm.MethodName)) ∈ lw_all := lw_g (lw_at lw_m7 2 rfl) rfl
theorem q1526 : (Jvm.Cond.code ({ cls := "WindGas", name := "validMany", desc := "()I" } : Jvm.MethodName) prog_1_method_70_code (3 : Nat) (Option.some Jvm.ClassFile.FieldType.int)) ∈ lw_all := lw_g (lw_at lw_m7 3 rfl) rfl
theorem q1527 : (Jvm.Cond.methodLink "WindGas" (660 : Nat) ({ cls := "WindGas", name := "greenMany", desc := "()I" } : Jvm.MethodName)) ∈ lw_all := lw_g (lw_at lw_m7 4 rfl) rfl
theorem q1528 : (Jvm.Cond.privateMethod ({ cls := "WindGas", name := "greenMany", desc := "()I" } : Jvm.MethodName)) ∈ lw_tbl := lw_at lw_m7 5 rfl
theorem q1529 : (Jvm.Cond.instanceMethod ({ cls := "WindGas", name := "greenMany", desc := "()I" } : Jvm.MethodName)) ∈ lw_all := lw_g (lw_at lw_m7 6 rfl) rfl
theorem q1530 : (Jvm.Cond.code ({ cls := "WindGas", name := "greenMany", desc := "()I" } : Jvm.MethodName) prog_1_method_71_code (3 : Nat) (Option.some Jvm.ClassFile.FieldType.int)) ∈ lw_all := lw_g (lw_at lw_m7 7 rfl) rfl
theorem q2116 : (Jvm.Cond.castable "WindGas" "java/lang/Object") ∈ lw_tbl := lw_at lw_m9 113 rfl
theorem in_X0 : ∀ w ∈ wsX00, w ∈ lw_all := lw_in wsX00 [308, 310, 312, 314, 316, 318, 320, 322, 324, 326, 328, 330, 332, 334, 336, 338, 340, 342, 344, 346, 348, 350, 352, 354, 356, 358, 360, 362, 364, 366, 368, 370, 372, 374, 376, 378, 380, 382, 384, 386, 388, 390] (by decide +kernel) (by decide +kernel)

/-! WindGas$Tellings -/
set_option maxRecDepth 100000
def RX1 : String := "WindGas$Tellings"
def TX1 : u_T := fun k => match k with
  | 0 => ("WindGas$Tellings", "least", "I", true)
  | 1 => ("WindGas$Tellings", "most", "I", true)
  | _ => ("WindGas$Tellings", "spans", "Ljava/util/ArrayList;", true)
def tyX1 : Nat → FieldType := fun k => match k with
  | 0 => .int
  | 1 => .int
  | _ => .object "java/util/ArrayList"
abbrev wsX10 : List Cond := u_ws RX1 TX1 3
theorem nmX1 : ∀ a, a < 3 → ∀ b, b < 3 → a ≠ b → (TX1 a).2.1 ≠ (TX1 b).2.1 := by decide +kernel
theorem tyX1_ok : ∀ k, k < 3 → parseFieldDescriptor (TX1 k).2.2.1 = some (tyX1 k) := by decide +kernel
abbrev cX1_init : ByteArray := prog_14_method_1_code
def yX1_init : MethodName := ⟨RX1, "<init>", "(II)V"⟩
abbrev cX1_add : ByteArray := prog_14_method_2_code
def yX1_add : MethodName := ⟨RX1, "add", "(III)Z"⟩
abbrev cX1_at : ByteArray := prog_14_method_3_code
def yX1_at : MethodName := ⟨RX1, "at", "(I)I"⟩
theorem q85 : (Jvm.Cond.initialized "WindGas$Tellings") ∈ lw_all := lw_g (lw_at lw_m1 2 rfl) rfl
theorem q129 : (Jvm.Cond.instantiable "WindGas$Tellings" (3 : Nat)) ∈ lw_all := lw_g (lw_at lw_m1 46 rfl) rfl
theorem q131 : (Jvm.Cond.instanceMethod ({ cls := "WindGas$Tellings", name := "<init>", desc := "(II)V" } : Jvm.MethodName)) ∈ lw_all := lw_g (lw_at lw_m1 48 rfl) rfl
theorem q132 : (Jvm.Cond.code ({ cls := "WindGas$Tellings", name := "<init>", desc := "(II)V" } : Jvm.MethodName) prog_14_method_1_code (3 : Nat) (Option.none : Option Jvm.ClassFile.FieldType)) ∈ lw_all := lw_g (lw_at lw_m1 49 rfl) rfl
theorem q133 : (Jvm.Cond.methodLink "WindGas$Tellings" (3 : Nat) ({ cls := "java/lang/Object", name := "<init>", desc := "()V" } : Jvm.MethodName)) ∈ lw_all := lw_g (lw_at lw_m1 50 rfl) rfl
theorem q134 : (Jvm.Cond.classLink "WindGas$Tellings" (9 : Nat) "java/util/ArrayList") ∈ lw_all := lw_g (lw_at lw_m1 51 rfl) rfl
theorem q136 : (Jvm.Cond.methodLink "WindGas$Tellings" (11 : Nat) ({ cls := "java/util/ArrayList", name := "<init>", desc := "()V" } : Jvm.MethodName)) ∈ lw_all := lw_g (lw_at lw_m1 53 rfl) rfl
theorem q160 : (Jvm.Cond.fieldLink "WindGas$Tellings" (18 : Nat) "WindGas$Tellings" "least" "I") ∈ lw_all := lw_g (lw_at lw_m1 77 rfl) rfl
theorem q161 : (Jvm.Cond.fieldLink "WindGas$Tellings" (22 : Nat) "WindGas$Tellings" "most" "I") ∈ lw_all := lw_g (lw_at lw_m1 78 rfl) rfl
theorem q162 : (Jvm.Cond.fieldLink "WindGas$Tellings" (12 : Nat) "WindGas$Tellings" "spans" "Ljava/util/ArrayList;") ∈ lw_all := lw_g (lw_at lw_m1 79 rfl) rfl
theorem q163 : (Jvm.Cond.laysFinal "WindGas$Tellings" "WindGas$Tellings" "least" "I") ∈ lw_all := lw_g (lw_at lw_m1 80 rfl) rfl
theorem q164 : (Jvm.Cond.soleField "WindGas$Tellings" "least") ∈ lw_all := lw_g (lw_at lw_m1 81 rfl) rfl
theorem q165 : (Jvm.Cond.laysFinal "WindGas$Tellings" "WindGas$Tellings" "most" "I") ∈ lw_all := lw_g (lw_at lw_m1 82 rfl) rfl
theorem q166 : (Jvm.Cond.soleField "WindGas$Tellings" "most") ∈ lw_all := lw_g (lw_at lw_m1 83 rfl) rfl
theorem q167 : (Jvm.Cond.laysFinal "WindGas$Tellings" "WindGas$Tellings" "spans" "Ljava/util/ArrayList;") ∈ lw_all := lw_g (lw_at lw_m1 84 rfl) rfl
theorem q168 : (Jvm.Cond.soleField "WindGas$Tellings" "spans") ∈ lw_all := lw_g (lw_at lw_m1 85 rfl) rfl
theorem q169 : (Jvm.Cond.superclass "WindGas$Tellings" "java/lang/Object") ∈ lw_all := lw_g (lw_at lw_m1 86 rfl) rfl
theorem q412 : (Jvm.Cond.instanceMethod ({ cls := "WindGas$Tellings", name := "add", desc := "(III)Z" } : Jvm.MethodName)) ∈ lw_all := lw_g (lw_at lw_m2 89 rfl) rfl
theorem q413 : (Jvm.Cond.selects "WindGas$Tellings" ({ cls := "WindGas$Tellings", name := "add", desc := "(III)Z" } : Jvm.MethodName) ({ cls := "WindGas$Tellings", name := "add", desc := "(III)Z" } : Jvm.MethodName)) ∈ lw_all := lw_g (lw_at lw_m2 90 rfl) rfl
theorem q414 : (Jvm.Cond.code ({ cls := "WindGas$Tellings", name := "add", desc := "(III)Z" } : Jvm.MethodName) prog_14_method_2_code (4 : Nat) (Option.some Jvm.ClassFile.FieldType.boolean)) ∈ lw_all := lw_g (lw_at lw_m2 91 rfl) rfl
theorem q415 : (Jvm.Cond.methodLinkNest "WindGas$Tellings" (25 : Nat) ({ cls := "WindGas", name := "isIn", desc := "(JJJ)Z" } : Jvm.MethodName) "WindGas") ∈ lw_tbl := lw_at lw_m2 92 rfl
theorem q416 : (Jvm.Cond.methodLink "WindGas$Tellings" (29 : Nat) ({ cls := "java/util/ArrayList", name := "size", desc := "()I" } : Jvm.MethodName)) ∈ lw_all := lw_g (lw_at lw_m2 93 rfl) rfl
theorem q420 : (Jvm.Cond.classLink "WindGas$Tellings" (33 : Nat) "WindGas$Span") ∈ lw_all := lw_g (lw_at lw_m2 97 rfl) rfl
theorem q422 : (Jvm.Cond.methodLinkNest "WindGas$Tellings" (35 : Nat) ({ cls := "WindGas$Span", name := "<init>", desc := "(III)V" } : Jvm.MethodName) "WindGas") ∈ lw_tbl := lw_at lw_m2 99 rfl
theorem q439 : (Jvm.Cond.methodLink "WindGas$Tellings" (38 : Nat) ({ cls := "java/util/ArrayList", name := "add", desc := "(Ljava/lang/Object;)Z" } : Jvm.MethodName)) ∈ lw_all := lw_g (lw_at lw_m2 116 rfl) rfl
theorem q483 : (Jvm.Cond.selects "WindGas$Tellings" ({ cls := "java/lang/Object", name := "getClass", desc := "()Ljava/lang/Class;" } : Jvm.MethodName) ({ cls := "java/lang/Object", name := "getClass", desc := "()Ljava/lang/Class;" } : Jvm.MethodName)) ∈ lw_all := lw_g (lw_at lw_m2 160 rfl) rfl
theorem q512 : (Jvm.Cond.instanceMethod ({ cls := "WindGas$Tellings", name := "at", desc := "(I)I" } : Jvm.MethodName)) ∈ lw_all := lw_g (lw_at lw_m2 189 rfl) rfl
theorem q513 : (Jvm.Cond.selects "WindGas$Tellings" ({ cls := "WindGas$Tellings", name := "at", desc := "(I)I" } : Jvm.MethodName) ({ cls := "WindGas$Tellings", name := "at", desc := "(I)I" } : Jvm.MethodName)) ∈ lw_all := lw_g (lw_at lw_m2 190 rfl) rfl
theorem q514 : (Jvm.Cond.code ({ cls := "WindGas$Tellings", name := "at", desc := "(I)I" } : Jvm.MethodName) prog_14_method_3_code (3 : Nat) (Option.some Jvm.ClassFile.FieldType.int)) ∈ lw_all := lw_g (lw_at lw_m2 191 rfl) rfl
theorem q515 : (Jvm.Cond.methodLink "WindGas$Tellings" (42 : Nat) ({ cls := "java/util/ArrayList", name := "get", desc := "(I)Ljava/lang/Object;" } : Jvm.MethodName)) ∈ lw_all := lw_g (lw_at lw_m2 192 rfl) rfl
theorem q529 : (Jvm.Cond.methodLink "WindGas$Tellings" (46 : Nat) ({ cls := "WindGas$Span", name := "from", desc := "()I" } : Jvm.MethodName)) ∈ lw_all := lw_g (lw_at lw_m2 206 rfl) rfl
theorem q533 : (Jvm.Cond.methodLink "WindGas$Tellings" (49 : Nat) ({ cls := "WindGas$Span", name := "to", desc := "()I" } : Jvm.MethodName)) ∈ lw_all := lw_g (lw_at lw_m2 210 rfl) rfl
theorem q537 : (Jvm.Cond.methodLink "WindGas$Tellings" (52 : Nat) ({ cls := "WindGas$Span", name := "v", desc := "()I" } : Jvm.MethodName)) ∈ lw_all := lw_g (lw_at lw_m2 214 rfl) rfl
theorem q2117 : (Jvm.Cond.castable "WindGas$Tellings" "java/lang/Object") ∈ lw_tbl := lw_at lw_m9 114 rfl
theorem in_X1 : ∀ w ∈ wsX10, w ∈ lw_all := lw_in wsX10 [163, 165, 167] (by decide +kernel) (by decide +kernel)

/-! WindGas$Rules -/
set_option maxRecDepth 100000
def RX2 : String := "WindGas$Rules"
def TX2 : u_T := fun k => match k with
  | 0 => ("WindGas$Rules", "from", "I", true)
  | 1 => ("WindGas$Rules", "purity", "I", false)
  | 2 => ("WindGas$Rules", "storm", "I", false)
  | 3 => ("WindGas$Rules", "least", "I", false)
  | 4 => ("WindGas$Rules", "starts", "I", false)
  | 5 => ("WindGas$Rules", "cable", "I", false)
  | 6 => ("WindGas$Rules", "statements", "I", false)
  | 7 => ("WindGas$Rules", "isWorn", "Z", false)
  | 8 => ("WindGas$Rules", "greens", "Ljava/util/ArrayList;", true)
  | 9 => ("WindGas$Rules", "sells", "Ljava/util/ArrayList;", true)
  | _ => ("WindGas$Rules", "aparts", "Ljava/util/ArrayList;", true)
def tyX2 : Nat → FieldType := fun k => match k with
  | 0 => .int
  | 1 => .int
  | 2 => .int
  | 3 => .int
  | 4 => .int
  | 5 => .int
  | 6 => .int
  | 7 => .boolean
  | 8 => .object "java/util/ArrayList"
  | 9 => .object "java/util/ArrayList"
  | _ => .object "java/util/ArrayList"
abbrev wsX20 : List Cond := u_ws RX2 TX2 11
theorem nmX2 : ∀ a, a < 11 → ∀ b, b < 11 → a ≠ b → (TX2 a).2.1 ≠ (TX2 b).2.1 := by decide +kernel
theorem tyX2_ok : ∀ k, k < 11 → parseFieldDescriptor (TX2 k).2.2.1 = some (tyX2 k) := by decide +kernel
abbrev cX2_init : ByteArray := prog_9_method_1_code
def yX2_init : MethodName := ⟨RX2, "<init>", "(I)V"⟩
abbrev cX2_any : ByteArray := prog_9_method_2_code
def yX2_any : MethodName := ⟨RX2, "any", "(Ljava/util/ArrayList;[J)Z"⟩
theorem q89 : (Jvm.Cond.initialized "WindGas$Rules") ∈ lw_all := lw_g (lw_at lw_m1 6 rfl) rfl
theorem q173 : (Jvm.Cond.instantiable "WindGas$Rules" (11 : Nat)) ∈ lw_all := lw_g (lw_at lw_m1 90 rfl) rfl
theorem q175 : (Jvm.Cond.instanceMethod ({ cls := "WindGas$Rules", name := "<init>", desc := "(I)V" } : Jvm.MethodName)) ∈ lw_all := lw_g (lw_at lw_m1 92 rfl) rfl
theorem q176 : (Jvm.Cond.code ({ cls := "WindGas$Rules", name := "<init>", desc := "(I)V" } : Jvm.MethodName) prog_9_method_1_code (2 : Nat) (Option.none : Option Jvm.ClassFile.FieldType)) ∈ lw_all := lw_g (lw_at lw_m1 93 rfl) rfl
theorem q177 : (Jvm.Cond.methodLink "WindGas$Rules" (1 : Nat) ({ cls := "java/lang/Object", name := "<init>", desc := "()V" } : Jvm.MethodName)) ∈ lw_all := lw_g (lw_at lw_m1 94 rfl) rfl
theorem q178 : (Jvm.Cond.classLink "WindGas$Rules" (25 : Nat) "java/util/ArrayList") ∈ lw_all := lw_g (lw_at lw_m1 95 rfl) rfl
theorem q179 : (Jvm.Cond.methodLink "WindGas$Rules" (27 : Nat) ({ cls := "java/util/ArrayList", name := "<init>", desc := "()V" } : Jvm.MethodName)) ∈ lw_all := lw_g (lw_at lw_m1 96 rfl) rfl
theorem q180 : (Jvm.Cond.fieldLink "WindGas$Rules" (38 : Nat) "WindGas$Rules" "from" "I") ∈ lw_all := lw_g (lw_at lw_m1 97 rfl) rfl
theorem q182 : (Jvm.Cond.fieldLink "WindGas$Rules" (7 : Nat) "WindGas$Rules" "purity" "I") ∈ lw_all := lw_g (lw_at lw_m1 99 rfl) rfl
theorem q184 : (Jvm.Cond.fieldLink "WindGas$Rules" (13 : Nat) "WindGas$Rules" "storm" "I") ∈ lw_all := lw_g (lw_at lw_m1 101 rfl) rfl
theorem q186 : (Jvm.Cond.fieldLink "WindGas$Rules" (16 : Nat) "WindGas$Rules" "least" "I") ∈ lw_all := lw_g (lw_at lw_m1 103 rfl) rfl
theorem q189 : (Jvm.Cond.fieldLink "WindGas$Rules" (19 : Nat) "WindGas$Rules" "starts" "I") ∈ lw_all := lw_g (lw_at lw_m1 106 rfl) rfl
theorem q191 : (Jvm.Cond.fieldLink "WindGas$Rules" (22 : Nat) "WindGas$Rules" "cable" "I") ∈ lw_all := lw_g (lw_at lw_m1 108 rfl) rfl
theorem q195 : (Jvm.Cond.fieldLink "WindGas$Rules" (28 : Nat) "WindGas$Rules" "greens" "Ljava/util/ArrayList;") ∈ lw_all := lw_g (lw_at lw_m1 112 rfl) rfl
theorem q197 : (Jvm.Cond.fieldLink "WindGas$Rules" (32 : Nat) "WindGas$Rules" "sells" "Ljava/util/ArrayList;") ∈ lw_all := lw_g (lw_at lw_m1 114 rfl) rfl
theorem q199 : (Jvm.Cond.fieldLink "WindGas$Rules" (35 : Nat) "WindGas$Rules" "aparts" "Ljava/util/ArrayList;") ∈ lw_all := lw_g (lw_at lw_m1 116 rfl) rfl
theorem q201 : (Jvm.Cond.laysFinal "WindGas$Rules" "WindGas$Rules" "from" "I") ∈ lw_all := lw_g (lw_at lw_m1 118 rfl) rfl
theorem q202 : (Jvm.Cond.soleField "WindGas$Rules" "from") ∈ lw_all := lw_g (lw_at lw_m1 119 rfl) rfl
theorem q203 : (Jvm.Cond.lays "WindGas$Rules" "WindGas$Rules" "purity" "I") ∈ lw_all := lw_g (lw_at lw_m1 120 rfl) rfl
theorem q204 : (Jvm.Cond.soleField "WindGas$Rules" "purity") ∈ lw_all := lw_g (lw_at lw_m1 121 rfl) rfl
theorem q205 : (Jvm.Cond.lays "WindGas$Rules" "WindGas$Rules" "storm" "I") ∈ lw_all := lw_g (lw_at lw_m1 122 rfl) rfl
theorem q206 : (Jvm.Cond.soleField "WindGas$Rules" "storm") ∈ lw_all := lw_g (lw_at lw_m1 123 rfl) rfl
theorem q207 : (Jvm.Cond.lays "WindGas$Rules" "WindGas$Rules" "least" "I") ∈ lw_all := lw_g (lw_at lw_m1 124 rfl) rfl
theorem q208 : (Jvm.Cond.soleField "WindGas$Rules" "least") ∈ lw_all := lw_g (lw_at lw_m1 125 rfl) rfl
theorem q209 : (Jvm.Cond.lays "WindGas$Rules" "WindGas$Rules" "starts" "I") ∈ lw_all := lw_g (lw_at lw_m1 126 rfl) rfl
theorem q210 : (Jvm.Cond.soleField "WindGas$Rules" "starts") ∈ lw_all := lw_g (lw_at lw_m1 127 rfl) rfl
theorem q211 : (Jvm.Cond.lays "WindGas$Rules" "WindGas$Rules" "cable" "I") ∈ lw_all := lw_g (lw_at lw_m1 128 rfl) rfl
theorem q212 : (Jvm.Cond.soleField "WindGas$Rules" "cable") ∈ lw_all := lw_g (lw_at lw_m1 129 rfl) rfl
theorem q213 : (Jvm.Cond.lays "WindGas$Rules" "WindGas$Rules" "statements" "I") ∈ lw_all := lw_g (lw_at lw_m1 130 rfl) rfl
theorem q214 : (Jvm.Cond.soleField "WindGas$Rules" "statements") ∈ lw_all := lw_g (lw_at lw_m1 131 rfl) rfl
theorem q215 : (Jvm.Cond.lays "WindGas$Rules" "WindGas$Rules" "isWorn" "Z") ∈ lw_all := lw_g (lw_at lw_m1 132 rfl) rfl
theorem q216 : (Jvm.Cond.soleField "WindGas$Rules" "isWorn") ∈ lw_all := lw_g (lw_at lw_m1 133 rfl) rfl
theorem q217 : (Jvm.Cond.laysFinal "WindGas$Rules" "WindGas$Rules" "greens" "Ljava/util/ArrayList;") ∈ lw_all := lw_g (lw_at lw_m1 134 rfl) rfl
theorem q218 : (Jvm.Cond.soleField "WindGas$Rules" "greens") ∈ lw_all := lw_g (lw_at lw_m1 135 rfl) rfl
theorem q219 : (Jvm.Cond.laysFinal "WindGas$Rules" "WindGas$Rules" "sells" "Ljava/util/ArrayList;") ∈ lw_all := lw_g (lw_at lw_m1 136 rfl) rfl
theorem q220 : (Jvm.Cond.soleField "WindGas$Rules" "sells") ∈ lw_all := lw_g (lw_at lw_m1 137 rfl) rfl
theorem q221 : (Jvm.Cond.laysFinal "WindGas$Rules" "WindGas$Rules" "aparts" "Ljava/util/ArrayList;") ∈ lw_all := lw_g (lw_at lw_m1 138 rfl) rfl
theorem q222 : (Jvm.Cond.soleField "WindGas$Rules" "aparts") ∈ lw_all := lw_g (lw_at lw_m1 139 rfl) rfl
theorem q223 : (Jvm.Cond.superclass "WindGas$Rules" "java/lang/Object") ∈ lw_all := lw_g (lw_at lw_m1 140 rfl) rfl
theorem q478 : (Jvm.Cond.selects "WindGas$Rules" ({ cls := "java/lang/Object", name := "getClass", desc := "()Ljava/lang/Class;" } : Jvm.MethodName) ({ cls := "java/lang/Object", name := "getClass", desc := "()Ljava/lang/Class;" } : Jvm.MethodName)) ∈ lw_all := lw_g (lw_at lw_m2 155 rfl) rfl
theorem q1169 : (Jvm.Cond.static ({ cls := "WindGas$Rules", name := "any", desc := "(Ljava/util/ArrayList;[J)Z" } : Jvm.MethodName)) ∈ lw_all := lw_g (lw_at lw_m5 126 rfl) rfl
theorem q1170 : (Jvm.Cond.code ({ cls := "WindGas$Rules", name := "any", desc := "(Ljava/util/ArrayList;[J)Z" } : Jvm.MethodName) prog_9_method_2_code (3 : Nat) (Option.some Jvm.ClassFile.FieldType.boolean)) ∈ lw_all := lw_g (lw_at lw_m5 127 rfl) rfl
theorem q1171 : (Jvm.Cond.methodLink "WindGas$Rules" (41 : Nat) ({ cls := "java/util/ArrayList", name := "size", desc := "()I" } : Jvm.MethodName)) ∈ lw_all := lw_g (lw_at lw_m5 128 rfl) rfl
theorem q1172 : (Jvm.Cond.methodLink "WindGas$Rules" (45 : Nat) ({ cls := "java/util/ArrayList", name := "get", desc := "(I)Ljava/lang/Object;" } : Jvm.MethodName)) ∈ lw_all := lw_g (lw_at lw_m5 129 rfl) rfl
theorem q1173 : (Jvm.Cond.classLink "WindGas$Rules" (49 : Nat) "WindGas$Cond") ∈ lw_all := lw_g (lw_at lw_m5 130 rfl) rfl
theorem q1174 : (Jvm.Cond.interfaceEntry "WindGas$Rules" (51 : Nat)) ∈ lw_tbl := lw_at lw_m5 131 rfl
theorem q1175 : (Jvm.Cond.methodLink "WindGas$Rules" (51 : Nat) ({ cls := "WindGas$Cond", name := "holds", desc := "([J)Z" } : Jvm.MethodName)) ∈ lw_all := lw_g (lw_at lw_m5 132 rfl) rfl
theorem q2119 : (Jvm.Cond.castable "WindGas$Rules" "java/lang/Object") ∈ lw_tbl := lw_at lw_m9 116 rfl
theorem in_X2 : ∀ w ∈ wsX20, w ∈ lw_all := lw_in wsX20 [201, 203, 205, 207, 209, 211, 213, 215, 217, 219, 221] (by decide +kernel) (by decide +kernel)

/-! WindGas$Store -/
set_option maxRecDepth 100000
def RX3 : String := "WindGas$Store"
def TX3 : u_T := fun k => match k with
  | 0 => ("WindGas$Store", "lots", "Ljava/util/ArrayList;", true)
  | 1 => ("WindGas$Store", "room", "I", false)
  | 2 => ("WindGas$Store", "leak", "I", false)
  | 3 => ("WindGas$Store", "breath", "I", false)
  | 4 => ("WindGas$Store", "grams", "I", false)
  | 5 => ("WindGas$Store", "in", "I", false)
  | 6 => ("WindGas$Store", "out", "I", false)
  | 7 => ("WindGas$Store", "leaked", "J", false)
  | _ => ("WindGas$Store", "lost", "J", false)
def tyX3 : Nat → FieldType := fun k => match k with
  | 0 => .object "java/util/ArrayList"
  | 1 => .int
  | 2 => .int
  | 3 => .int
  | 4 => .int
  | 5 => .int
  | 6 => .int
  | 7 => .long
  | _ => .long
abbrev wsX30 : List Cond := u_ws RX3 TX3 9
theorem nmX3 : ∀ a, a < 9 → ∀ b, b < 9 → a ≠ b → (TX3 a).2.1 ≠ (TX3 b).2.1 := by decide +kernel
theorem tyX3_ok : ∀ k, k < 9 → parseFieldDescriptor (TX3 k).2.2.1 = some (tyX3 k) := by decide +kernel
abbrev cX3_init : ByteArray := prog_13_method_1_code
def yX3_init : MethodName := ⟨RX3, "<init>", "()V"⟩
abbrev cX3_foul : ByteArray := prog_13_method_2_code
def yX3_foul : MethodName := ⟨RX3, "foul", "()I"⟩
abbrev cX3_takes : ByteArray := prog_13_method_5_code
def yX3_takes : MethodName := ⟨RX3, "takes", "(ILWindGas$Trip;)V"⟩
abbrev cX3_adds : ByteArray := prog_13_method_3_code
def yX3_adds : MethodName := ⟨RX3, "adds", "(III)V"⟩
abbrev cX3_foulOf : ByteArray := prog_13_method_4_code
def yX3_foulOf : MethodName := ⟨RX3, "foulOf", "(I)I"⟩
abbrev cX3_leaks : ByteArray := prog_13_method_6_code
def yX3_leaks : MethodName := ⟨RX3, "leaks", "()V"⟩
theorem q90 : (Jvm.Cond.initialized "WindGas$Store") ∈ lw_all := lw_g (lw_at lw_m1 7 rfl) rfl
theorem q226 : (Jvm.Cond.instantiable "WindGas$Store" (9 : Nat)) ∈ lw_all := lw_g (lw_at lw_m1 143 rfl) rfl
theorem q228 : (Jvm.Cond.instanceMethod ({ cls := "WindGas$Store", name := "<init>", desc := "()V" } : Jvm.MethodName)) ∈ lw_all := lw_g (lw_at lw_m1 145 rfl) rfl
theorem q229 : (Jvm.Cond.code ({ cls := "WindGas$Store", name := "<init>", desc := "()V" } : Jvm.MethodName) prog_13_method_1_code (1 : Nat) (Option.none : Option Jvm.ClassFile.FieldType)) ∈ lw_all := lw_g (lw_at lw_m1 146 rfl) rfl
theorem q230 : (Jvm.Cond.methodLink "WindGas$Store" (1 : Nat) ({ cls := "java/lang/Object", name := "<init>", desc := "()V" } : Jvm.MethodName)) ∈ lw_all := lw_g (lw_at lw_m1 147 rfl) rfl
theorem q231 : (Jvm.Cond.classLink "WindGas$Store" (7 : Nat) "java/util/ArrayList") ∈ lw_all := lw_g (lw_at lw_m1 148 rfl) rfl
theorem q232 : (Jvm.Cond.methodLink "WindGas$Store" (9 : Nat) ({ cls := "java/util/ArrayList", name := "<init>", desc := "()V" } : Jvm.MethodName)) ∈ lw_all := lw_g (lw_at lw_m1 149 rfl) rfl
theorem q233 : (Jvm.Cond.fieldLink "WindGas$Store" (10 : Nat) "WindGas$Store" "lots" "Ljava/util/ArrayList;") ∈ lw_all := lw_g (lw_at lw_m1 150 rfl) rfl
theorem q236 : (Jvm.Cond.fieldLink "WindGas$Store" (74 : Nat) "WindGas$Store" "leak" "I") ∈ lw_all := lw_g (lw_at lw_m1 153 rfl) rfl
theorem q239 : (Jvm.Cond.fieldLink "WindGas$Store" (47 : Nat) "WindGas$Store" "grams" "I") ∈ lw_all := lw_g (lw_at lw_m1 156 rfl) rfl
theorem q243 : (Jvm.Cond.fieldLink "WindGas$Store" (82 : Nat) "WindGas$Store" "leaked" "J") ∈ lw_all := lw_g (lw_at lw_m1 160 rfl) rfl
theorem q246 : (Jvm.Cond.laysFinal "WindGas$Store" "WindGas$Store" "lots" "Ljava/util/ArrayList;") ∈ lw_all := lw_g (lw_at lw_m1 163 rfl) rfl
theorem q247 : (Jvm.Cond.soleField "WindGas$Store" "lots") ∈ lw_all := lw_g (lw_at lw_m1 164 rfl) rfl
theorem q248 : (Jvm.Cond.lays "WindGas$Store" "WindGas$Store" "room" "I") ∈ lw_all := lw_g (lw_at lw_m1 165 rfl) rfl
theorem q249 : (Jvm.Cond.soleField "WindGas$Store" "room") ∈ lw_all := lw_g (lw_at lw_m1 166 rfl) rfl
theorem q250 : (Jvm.Cond.lays "WindGas$Store" "WindGas$Store" "leak" "I") ∈ lw_all := lw_g (lw_at lw_m1 167 rfl) rfl
theorem q251 : (Jvm.Cond.soleField "WindGas$Store" "leak") ∈ lw_all := lw_g (lw_at lw_m1 168 rfl) rfl
theorem q252 : (Jvm.Cond.lays "WindGas$Store" "WindGas$Store" "breath" "I") ∈ lw_all := lw_g (lw_at lw_m1 169 rfl) rfl
theorem q253 : (Jvm.Cond.soleField "WindGas$Store" "breath") ∈ lw_all := lw_g (lw_at lw_m1 170 rfl) rfl
theorem q254 : (Jvm.Cond.lays "WindGas$Store" "WindGas$Store" "grams" "I") ∈ lw_all := lw_g (lw_at lw_m1 171 rfl) rfl
theorem q255 : (Jvm.Cond.soleField "WindGas$Store" "grams") ∈ lw_all := lw_g (lw_at lw_m1 172 rfl) rfl
theorem q256 : (Jvm.Cond.lays "WindGas$Store" "WindGas$Store" "in" "I") ∈ lw_all := lw_g (lw_at lw_m1 173 rfl) rfl
theorem q257 : (Jvm.Cond.soleField "WindGas$Store" "in") ∈ lw_all := lw_g (lw_at lw_m1 174 rfl) rfl
theorem q258 : (Jvm.Cond.lays "WindGas$Store" "WindGas$Store" "out" "I") ∈ lw_all := lw_g (lw_at lw_m1 175 rfl) rfl
theorem q259 : (Jvm.Cond.soleField "WindGas$Store" "out") ∈ lw_all := lw_g (lw_at lw_m1 176 rfl) rfl
theorem q260 : (Jvm.Cond.lays "WindGas$Store" "WindGas$Store" "leaked" "J") ∈ lw_all := lw_g (lw_at lw_m1 177 rfl) rfl
theorem q261 : (Jvm.Cond.soleField "WindGas$Store" "leaked") ∈ lw_all := lw_g (lw_at lw_m1 178 rfl) rfl
theorem q262 : (Jvm.Cond.lays "WindGas$Store" "WindGas$Store" "lost" "J") ∈ lw_all := lw_g (lw_at lw_m1 179 rfl) rfl
theorem q263 : (Jvm.Cond.soleField "WindGas$Store" "lost") ∈ lw_all := lw_g (lw_at lw_m1 180 rfl) rfl
theorem q264 : (Jvm.Cond.superclass "WindGas$Store" "java/lang/Object") ∈ lw_all := lw_g (lw_at lw_m1 181 rfl) rfl
theorem q482 : (Jvm.Cond.selects "WindGas$Store" ({ cls := "java/lang/Object", name := "getClass", desc := "()Ljava/lang/Class;" } : Jvm.MethodName) ({ cls := "java/lang/Object", name := "getClass", desc := "()Ljava/lang/Class;" } : Jvm.MethodName)) ∈ lw_all := lw_g (lw_at lw_m2 159 rfl) rfl
theorem q1050 : (Jvm.Cond.instanceMethod ({ cls := "WindGas$Store", name := "foul", desc := "()I" } : Jvm.MethodName)) ∈ lw_all := lw_g (lw_at lw_m5 7 rfl) rfl
theorem q1051 : (Jvm.Cond.selects "WindGas$Store" ({ cls := "WindGas$Store", name := "foul", desc := "()I" } : Jvm.MethodName) ({ cls := "WindGas$Store", name := "foul", desc := "()I" } : Jvm.MethodName)) ∈ lw_all := lw_g (lw_at lw_m5 8 rfl) rfl
theorem q1052 : (Jvm.Cond.code ({ cls := "WindGas$Store", name := "foul", desc := "()I" } : Jvm.MethodName) prog_13_method_2_code (3 : Nat) (Option.some Jvm.ClassFile.FieldType.int)) ∈ lw_all := lw_g (lw_at lw_m5 9 rfl) rfl
theorem q1053 : (Jvm.Cond.methodLink "WindGas$Store" (16 : Nat) ({ cls := "java/util/ArrayList", name := "size", desc := "()I" } : Jvm.MethodName)) ∈ lw_all := lw_g (lw_at lw_m5 10 rfl) rfl
theorem q1054 : (Jvm.Cond.methodLink "WindGas$Store" (20 : Nat) ({ cls := "java/util/ArrayList", name := "get", desc := "(I)Ljava/lang/Object;" } : Jvm.MethodName)) ∈ lw_all := lw_g (lw_at lw_m5 11 rfl) rfl
theorem q1055 : (Jvm.Cond.classLink "WindGas$Store" (24 : Nat) "WindGas$Lot") ∈ lw_all := lw_g (lw_at lw_m5 12 rfl) rfl
theorem q1067 : (Jvm.Cond.instanceMethod ({ cls := "WindGas$Store", name := "takes", desc := "(ILWindGas$Trip;)V" } : Jvm.MethodName)) ∈ lw_all := lw_g (lw_at lw_m5 24 rfl) rfl
theorem q1068 : (Jvm.Cond.selects "WindGas$Store" ({ cls := "WindGas$Store", name := "takes", desc := "(ILWindGas$Trip;)V" } : Jvm.MethodName) ({ cls := "WindGas$Store", name := "takes", desc := "(ILWindGas$Trip;)V" } : Jvm.MethodName)) ∈ lw_all := lw_g (lw_at lw_m5 25 rfl) rfl
theorem q1069 : (Jvm.Cond.code ({ cls := "WindGas$Store", name := "takes", desc := "(ILWindGas$Trip;)V" } : Jvm.MethodName) prog_13_method_5_code (6 : Nat) (Option.none : Option Jvm.ClassFile.FieldType)) ∈ lw_all := lw_g (lw_at lw_m5 26 rfl) rfl
theorem q1070 : (Jvm.Cond.methodLink "WindGas$Store" (48 : Nat) ({ cls := "java/lang/Math", name := "min", desc := "(II)I" } : Jvm.MethodName)) ∈ lw_all := lw_g (lw_at lw_m5 27 rfl) rfl
theorem q1071 : (Jvm.Cond.classLink "WindGas$Store" (63 : Nat) "WindGas$Sip") ∈ lw_all := lw_g (lw_at lw_m5 28 rfl) rfl
theorem q1073 : (Jvm.Cond.methodLinkNest "WindGas$Store" (65 : Nat) ({ cls := "WindGas$Sip", name := "<init>", desc := "(II)V" } : Jvm.MethodName) "WindGas") ∈ lw_tbl := lw_at lw_m5 30 rfl
theorem q1084 : (Jvm.Cond.methodLink "WindGas$Store" (40 : Nat) ({ cls := "java/util/ArrayList", name := "add", desc := "(Ljava/lang/Object;)Z" } : Jvm.MethodName)) ∈ lw_all := lw_g (lw_at lw_m5 41 rfl) rfl
theorem q1085 : (Jvm.Cond.methodLink "WindGas$Store" (68 : Nat) ({ cls := "WindGas$Lot", name := "takes", desc := "(I)V" } : Jvm.MethodName)) ∈ lw_all := lw_g (lw_at lw_m5 42 rfl) rfl
theorem q1093 : (Jvm.Cond.methodLink "WindGas$Store" (71 : Nat) ({ cls := "java/util/ArrayList", name := "remove", desc := "(I)Ljava/lang/Object;" } : Jvm.MethodName)) ∈ lw_all := lw_g (lw_at lw_m5 50 rfl) rfl
theorem q1244 : (Jvm.Cond.instanceMethod ({ cls := "WindGas$Store", name := "adds", desc := "(III)V" } : Jvm.MethodName)) ∈ lw_all := lw_g (lw_at lw_m5 201 rfl) rfl
theorem q1245 : (Jvm.Cond.selects "WindGas$Store" ({ cls := "WindGas$Store", name := "adds", desc := "(III)V" } : Jvm.MethodName) ({ cls := "WindGas$Store", name := "adds", desc := "(III)V" } : Jvm.MethodName)) ∈ lw_all := lw_g (lw_at lw_m5 202 rfl) rfl
theorem q1246 : (Jvm.Cond.code ({ cls := "WindGas$Store", name := "adds", desc := "(III)V" } : Jvm.MethodName) prog_13_method_3_code (5 : Nat) (Option.none : Option Jvm.ClassFile.FieldType)) ∈ lw_all := lw_g (lw_at lw_m5 203 rfl) rfl
theorem q1247 : (Jvm.Cond.methodLink "WindGas$Store" (30 : Nat) ({ cls := "java/util/ArrayList", name := "isEmpty", desc := "()Z" } : Jvm.MethodName)) ∈ lw_all := lw_g (lw_at lw_m5 204 rfl) rfl
theorem q1252 : (Jvm.Cond.methodLink "WindGas$Store" (37 : Nat) ({ cls := "WindGas$Lot", name := "<init>", desc := "(I)V" } : Jvm.MethodName)) ∈ lw_all := lw_g (lw_at lw_m5 209 rfl) rfl
theorem q1257 : (Jvm.Cond.fieldLinkNest "WindGas$Store" (34 : Nat) "WindGas$Lot" "hour" "I" "WindGas") ∈ lw_tbl := lw_at lw_m5 214 rfl
theorem q1260 : (Jvm.Cond.fieldLinkNest "WindGas$Store" (44 : Nat) "WindGas$Lot" "grams" "I" "WindGas") ∈ lw_tbl := lw_at lw_m5 217 rfl
theorem q1263 : (Jvm.Cond.fieldLinkNest "WindGas$Store" (26 : Nat) "WindGas$Lot" "foul" "I" "WindGas") ∈ lw_tbl := lw_at lw_m5 220 rfl
theorem q1278 : (Jvm.Cond.instanceMethod ({ cls := "WindGas$Store", name := "foulOf", desc := "(I)I" } : Jvm.MethodName)) ∈ lw_all := lw_g (lw_at lw_m5 235 rfl) rfl
theorem q1279 : (Jvm.Cond.selects "WindGas$Store" ({ cls := "WindGas$Store", name := "foulOf", desc := "(I)I" } : Jvm.MethodName) ({ cls := "WindGas$Store", name := "foulOf", desc := "(I)I" } : Jvm.MethodName)) ∈ lw_all := lw_g (lw_at lw_m5 236 rfl) rfl
theorem q1280 : (Jvm.Cond.code ({ cls := "WindGas$Store", name := "foulOf", desc := "(I)I" } : Jvm.MethodName) prog_13_method_4_code (6 : Nat) (Option.some Jvm.ClassFile.FieldType.int)) ∈ lw_all := lw_g (lw_at lw_m5 237 rfl) rfl
theorem q1281 : (Jvm.Cond.methodLink "WindGas$Store" (54 : Nat) ({ cls := "WindGas$Lot", name := "foulOf", desc := "(I)I" } : Jvm.MethodName)) ∈ lw_all := lw_g (lw_at lw_m5 238 rfl) rfl
theorem q1288 : (Jvm.Cond.instanceMethod ({ cls := "WindGas$Store", name := "leaks", desc := "()V" } : Jvm.MethodName)) ∈ lw_all := lw_g (lw_at lw_m6 5 rfl) rfl
theorem q1289 : (Jvm.Cond.selects "WindGas$Store" ({ cls := "WindGas$Store", name := "leaks", desc := "()V" } : Jvm.MethodName) ({ cls := "WindGas$Store", name := "leaks", desc := "()V" } : Jvm.MethodName)) ∈ lw_all := lw_g (lw_at lw_m6 6 rfl) rfl
theorem q1290 : (Jvm.Cond.code ({ cls := "WindGas$Store", name := "leaks", desc := "()V" } : Jvm.MethodName) prog_13_method_6_code (2 : Nat) (Option.none : Option Jvm.ClassFile.FieldType)) ∈ lw_all := lw_g (lw_at lw_m6 7 rfl) rfl
theorem q1291 : (Jvm.Cond.constantLong "WindGas$Store" (77 : Nat) (10000 : Int64)) ∈ lw_all := lw_g (lw_at lw_m6 8 rfl) rfl
theorem q1292 : (Jvm.Cond.methodLink "WindGas$Store" (79 : Nat) ({ cls := "WindGas$Store", name := "takes", desc := "(ILWindGas$Trip;)V" } : Jvm.MethodName)) ∈ lw_all := lw_g (lw_at lw_m6 9 rfl) rfl
theorem q1316 : (Jvm.Cond.fieldLinkNest "WindGas$Store" (58 : Nat) "WindGas$Trip" "sips" "Ljava/util/ArrayList;" "WindGas") ∈ lw_tbl := lw_at lw_m6 33 rfl
theorem q2120 : (Jvm.Cond.castable "WindGas$Store" "java/lang/Object") ∈ lw_tbl := lw_at lw_m9 117 rfl
theorem in_X3 : ∀ w ∈ wsX30, w ∈ lw_all := lw_in wsX30 [246, 248, 250, 252, 254, 256, 258, 260, 262] (by decide +kernel) (by decide +kernel)

/-! WindGasModel -/
set_option maxRecDepth 100000
def RX4 : String := "WindGasModel"
def TX4 : u_T := fun k => match k with
  | 0 => ("WindGasModel", "now", "I", false)
  | 1 => ("WindGasModel", "stacks", "I", false)
  | 2 => ("WindGasModel", "trips", "I", false)
  | 3 => ("WindGasModel", "papers", "I", false)
  | 4 => ("WindGasModel", "toldMany", "[I", true)
  | 5 => ("WindGasModel", "toldFrom", "[I", true)
  | 6 => ("WindGasModel", "toldTo", "[I", true)
  | 7 => ("WindGasModel", "toldAs", "[I", true)
  | 8 => ("WindGasModel", "size", "[I", true)
  | 9 => ("WindGasModel", "gives", "[I", true)
  | 10 => ("WindGasModel", "dirt", "[I", true)
  | 11 => ("WindGasModel", "wear", "[I", true)
  | 12 => ("WindGasModel", "startsOn", "[I", true)
  | 13 => ("WindGasModel", "startsIn", "[I", true)
  | 14 => ("WindGasModel", "startsEver", "[I", true)
  | 15 => ("WindGasModel", "runs", "[Z", true)
  | 16 => ("WindGasModel", "made", "[J", true)
  | 17 => ("WindGasModel", "sums", "[J", true)
  | 18 => ("WindGasModel", "tankRoom", "I", false)
  | 19 => ("WindGasModel", "water", "I", false)
  | 20 => ("WindGasModel", "room", "[I", true)
  | 21 => ("WindGasModel", "leak", "[I", true)
  | 22 => ("WindGasModel", "breath", "[I", true)
  | 23 => ("WindGasModel", "held", "[I", true)
  | 24 => ("WindGasModel", "foul", "[I", true)
  | 25 => ("WindGasModel", "lots", "[I", true)
  | 26 => ("WindGasModel", "oldest", "[I", true)
  | 27 => ("WindGasModel", "leaked", "[J", true)
  | 28 => ("WindGasModel", "lost", "[J", true)
  | 29 => ("WindGasModel", "lotHour", "[I", true)
  | 30 => ("WindGasModel", "lotGrams", "[I", true)
  | 31 => ("WindGasModel", "lotFoul", "[I", true)
  | 32 => ("WindGasModel", "tripKind", "[I", true)
  | 33 => ("WindGasModel", "tripTen", "[I", true)
  | 34 => ("WindGasModel", "tripGrams", "[I", true)
  | 35 => ("WindGasModel", "tripHow", "[I", true)
  | 36 => ("WindGasModel", "leftAt", "[I", true)
  | 37 => ("WindGasModel", "drankFoul", "[I", true)
  | 38 => ("WindGasModel", "drankOf", "[I", true)
  | 39 => ("WindGasModel", "breathOut", "I", false)
  | 40 => ("WindGasModel", "order", "[I", true)
  | 41 => ("WindGasModel", "storedThen", "[I", true)
  | 42 => ("WindGasModel", "waterThen", "[I", true)
  | 43 => ("WindGasModel", "runningThen", "[I", true)
  | 44 => ("WindGasModel", "gasNow", "I", false)
  | 45 => ("WindGasModel", "foulNow", "I", false)
  | 46 => ("WindGasModel", "paperTrip", "[I", true)
  | 47 => ("WindGasModel", "buyer", "[I", true)
  | 48 => ("WindGasModel", "paperGrams", "[I", true)
  | 49 => ("WindGasModel", "rules", "I", false)
  | 50 => ("WindGasModel", "nodes", "I", false)
  | 51 => ("WindGasModel", "taped", "I", false)
  | 52 => ("WindGasModel", "textMany", "I", false)
  | 53 => ("WindGasModel", "at", "I", false)
  | 54 => ("WindGasModel", "deep", "I", false)
  | 55 => ("WindGasModel", "fault", "I", false)
  | 56 => ("WindGasModel", "statements", "[I", true)
  | 57 => ("WindGasModel", "taken", "[I", true)
  | 58 => ("WindGasModel", "sort", "[I", true)
  | 59 => ("WindGasModel", "first", "[I", true)
  | 60 => ("WindGasModel", "second", "[I", true)
  | 61 => ("WindGasModel", "third", "[I", true)
  | 62 => ("WindGasModel", "nodeKind", "[I", true)
  | 63 => ("WindGasModel", "nodeFirst", "[I", true)
  | 64 => ("WindGasModel", "nodeNext", "[I", true)
  | 65 => ("WindGasModel", "nodeWord", "[I", true)
  | 66 => ("WindGasModel", "nodeSign", "[I", true)
  | 67 => ("WindGasModel", "nodeNumber", "[I", true)
  | 68 => ("WindGasModel", "tape", "[B", true)
  | 69 => ("WindGasModel", "text", "[B", true)
  | 70 => ("WindGasModel", "here", "[J", true)
  | 71 => ("WindGasModel", "wordEnd", "I", false)
  | 72 => ("WindGasModel", "read", "I", false)
  | 73 => ("WindGasModel", "things", "I", false)
  | 74 => ("WindGasModel", "thingKind", "[I", true)
  | 75 => ("WindGasModel", "thingX", "[I", true)
  | 76 => ("WindGasModel", "thingY", "[I", true)
  | 77 => ("WindGasModel", "least", "[I", true)
  | _ => ("WindGasModel", "hundreds", "[I", true)
def tyX4 : Nat → FieldType := fun k => match k with
  | 0 => .int
  | 1 => .int
  | 2 => .int
  | 3 => .int
  | 4 => .array .int
  | 5 => .array .int
  | 6 => .array .int
  | 7 => .array .int
  | 8 => .array .int
  | 9 => .array .int
  | 10 => .array .int
  | 11 => .array .int
  | 12 => .array .int
  | 13 => .array .int
  | 14 => .array .int
  | 15 => .array .boolean
  | 16 => .array .long
  | 17 => .array .long
  | 18 => .int
  | 19 => .int
  | 20 => .array .int
  | 21 => .array .int
  | 22 => .array .int
  | 23 => .array .int
  | 24 => .array .int
  | 25 => .array .int
  | 26 => .array .int
  | 27 => .array .long
  | 28 => .array .long
  | 29 => .array .int
  | 30 => .array .int
  | 31 => .array .int
  | 32 => .array .int
  | 33 => .array .int
  | 34 => .array .int
  | 35 => .array .int
  | 36 => .array .int
  | 37 => .array .int
  | 38 => .array .int
  | 39 => .int
  | 40 => .array .int
  | 41 => .array .int
  | 42 => .array .int
  | 43 => .array .int
  | 44 => .int
  | 45 => .int
  | 46 => .array .int
  | 47 => .array .int
  | 48 => .array .int
  | 49 => .int
  | 50 => .int
  | 51 => .int
  | 52 => .int
  | 53 => .int
  | 54 => .int
  | 55 => .int
  | 56 => .array .int
  | 57 => .array .int
  | 58 => .array .int
  | 59 => .array .int
  | 60 => .array .int
  | 61 => .array .int
  | 62 => .array .int
  | 63 => .array .int
  | 64 => .array .int
  | 65 => .array .int
  | 66 => .array .int
  | 67 => .array .int
  | 68 => .array .byte
  | 69 => .array .byte
  | 70 => .array .long
  | 71 => .int
  | 72 => .int
  | 73 => .int
  | 74 => .array .int
  | 75 => .array .int
  | 76 => .array .int
  | 77 => .array .int
  | _ => .array .int
abbrev wsX40 : List Cond := u_ws RX4 TX4 79
set_option maxRecDepth 100000 in
theorem nmX4 : ∀ a, a < 79 → ∀ b, b < 79 → a ≠ b → (TX4 a).2.1 ≠ (TX4 b).2.1 := by decide +kernel
set_option maxRecDepth 100000 in
theorem tyX4_ok : ∀ k, k < 79 → parseFieldDescriptor (TX4 k).2.2.1 = some (tyX4 k) := by decide +kernel
abbrev cX4_init : ByteArray := prog_19_method_1_code
def yX4_init : MethodName := ⟨RX4, "<init>", "()V"⟩
abbrev cX4_tell : ByteArray := prog_19_method_6_code
def yX4_tell : MethodName := ⟨RX4, "tell", "(IIII)Z"⟩
abbrev cX4_isIn : ByteArray := prog_19_method_2_code
def yX4_isIn : MethodName := ⟨RX4, "isIn", "(III)Z"⟩
abbrev cX4_isTen : ByteArray := prog_19_method_4_code
def yX4_isTen : MethodName := ⟨RX4, "isTen", "(I)Z"⟩
abbrev cX4_isTold : ByteArray := prog_19_method_5_code
def yX4_isTold : MethodName := ⟨RX4, "isTold", "(II)Z"⟩
abbrev cX4_said : ByteArray := prog_19_method_8_code
def yX4_said : MethodName := ⟨RX4, "said", "(II)I"⟩
abbrev cX4_saidOf : ByteArray := prog_19_method_7_code
def yX4_saidOf : MethodName := ⟨RX4, "saidOf", "(II)I"⟩
abbrev cX4_stack : ByteArray := prog_19_method_9_code
def yX4_stack : MethodName := ⟨RX4, "stack", "(III)I"⟩
abbrev cX4_store : ByteArray := prog_19_method_11_code
def yX4_store : MethodName := ⟨RX4, "store", "(IIII)Z"⟩
abbrev cX4_isStore : ByteArray := prog_19_method_10_code
def yX4_isStore : MethodName := ⟨RX4, "isStore", "(I)Z"⟩
abbrev cX4_tank : ByteArray := prog_19_method_12_code
def yX4_tank : MethodName := ⟨RX4, "tank", "(II)Z"⟩
abbrev cX4_trip : ByteArray := prog_19_method_18_code
def yX4_trip : MethodName := ⟨RX4, "trip", "(III)I"⟩
abbrev cX4_pass : ByteArray := prog_19_method_28_code
def yX4_pass : MethodName := ⟨RX4, "pass", "(I)I"⟩
abbrev cX4_ten : ByteArray := prog_19_method_26_code
def yX4_ten : MethodName := ⟨RX4, "ten", "()V"⟩
abbrev cX4_inForce : ByteArray := prog_19_method_62_code
def yX4_inForce : MethodName := ⟨RX4, "inForce", "(I)I"⟩
abbrev cX4_runningNow : ByteArray := prog_19_method_24_code
def yX4_runningNow : MethodName := ⟨RX4, "runningNow", "()I"⟩
abbrev cX4_one : ByteArray := prog_19_method_3_code
def yX4_one : MethodName := ⟨RX4, "one", "(Z)I"⟩
abbrev cX4_asks : ByteArray := prog_19_method_65_code
def yX4_asks : MethodName := ⟨RX4, "asks", "(IIIIII)Z"⟩
abbrev cX4_holds : ByteArray := prog_19_method_66_code
def yX4_holds : MethodName := ⟨RX4, "holds", "(I)Z"⟩
abbrev cX4_orders : ByteArray := prog_19_method_21_code
def yX4_orders : MethodName := ⟨RX4, "orders", "(I)V"⟩
abbrev cX4_tells : ByteArray := prog_19_method_64_code
def yX4_tells : MethodName := ⟨RX4, "tells", "(II)I"⟩
abbrev cX4_bare : ByteArray := prog_19_method_63_code
def yX4_bare : MethodName := ⟨RX4, "bare", "(I)I"⟩
abbrev cX4_turns : ByteArray := prog_19_method_25_code
def yX4_turns : MethodName := ⟨RX4, "turns", "(III)I"⟩
abbrev cX4_leastOf : ByteArray := prog_19_method_22_code
def yX4_leastOf : MethodName := ⟨RX4, "leastOf", "(II)I"⟩
abbrev cX4_gasOf : ByteArray := prog_19_method_23_code
def yX4_gasOf : MethodName := ⟨RX4, "gasOf", "(II)I"⟩
abbrev cX4_stores : ByteArray := prog_19_method_27_code
def yX4_stores : MethodName := ⟨RX4, "stores", "()V"⟩
abbrev cX4_puts : ByteArray := prog_19_method_14_code
def yX4_puts : MethodName := ⟨RX4, "puts", "(III)V"⟩
abbrev cX4_place : ByteArray := prog_19_method_13_code
def yX4_place : MethodName := ⟨RX4, "place", "(II)I"⟩
abbrev cX4_tries : ByteArray := prog_19_method_20_code
def yX4_tries : MethodName := ⟨RX4, "tries", "(II)V"⟩
abbrev cX4_foulIn : ByteArray := prog_19_method_16_code
def yX4_foulIn : MethodName := ⟨RX4, "foulIn", "(II)I"⟩
abbrev cX4_part : ByteArray := prog_19_method_15_code
def yX4_part : MethodName := ⟨RX4, "part", "(III)I"⟩
abbrev cX4_goesOut : ByteArray := prog_19_method_17_code
def yX4_goesOut : MethodName := ⟨RX4, "goesOut", "(III)V"⟩
abbrev cX4_stackOf : ByteArray := prog_19_method_30_code
def yX4_stackOf : MethodName := ⟨RX4, "stackOf", "(II)J"⟩
abbrev cX4_isStack : ByteArray := prog_19_method_29_code
def yX4_isStack : MethodName := ⟨RX4, "isStack", "(I)Z"⟩
abbrev cX4_storeOf : ByteArray := prog_19_method_31_code
def yX4_storeOf : MethodName := ⟨RX4, "storeOf", "(II)J"⟩
abbrev cX4_lot : ByteArray := prog_19_method_32_code
def yX4_lot : MethodName := ⟨RX4, "lot", "(III)I"⟩
abbrev cX4_tripOf : ByteArray := prog_19_method_34_code
def yX4_tripOf : MethodName := ⟨RX4, "tripOf", "(II)I"⟩
abbrev cX4_isTrip : ByteArray := prog_19_method_19_code
def yX4_isTrip : MethodName := ⟨RX4, "isTrip", "(I)Z"⟩
abbrev cX4_proved : ByteArray := prog_19_method_33_code
def yX4_proved : MethodName := ⟨RX4, "proved", "(I)I"⟩
abbrev cX4_isGreen : ByteArray := prog_19_method_37_code
def yX4_isGreen : MethodName := ⟨RX4, "isGreen", "(I)Z"⟩
abbrev cX4_isThrough : ByteArray := prog_19_method_36_code
def yX4_isThrough : MethodName := ⟨RX4, "isThrough", "(I)Z"⟩
abbrev cX4_drank : ByteArray := prog_19_method_35_code
def yX4_drank : MethodName := ⟨RX4, "drank", "(II)I"⟩
abbrev cX4_green : ByteArray := prog_19_method_38_code
def yX4_green : MethodName := ⟨RX4, "green", "(I)I"⟩
abbrev cX4_paper : ByteArray := prog_19_method_39_code
def yX4_paper : MethodName := ⟨RX4, "paper", "(III)I"⟩
abbrev cX4_paperOf : ByteArray := prog_19_method_41_code
def yX4_paperOf : MethodName := ⟨RX4, "paperOf", "(II)I"⟩
abbrev cX4_isValid : ByteArray := prog_19_method_40_code
def yX4_isValid : MethodName := ⟨RX4, "isValid", "(I)Z"⟩
abbrev cX4_meter : ByteArray := prog_19_method_42_code
def yX4_meter : MethodName := ⟨RX4, "meter", "(III)I"⟩
abbrev cX4_feed : ByteArray := prog_19_method_43_code
def yX4_feed : MethodName := ⟨RX4, "feed", "(IIIII)I"⟩
abbrev cX4_four : ByteArray := prog_19_method_44_code
def yX4_four : MethodName := ⟨RX4, "four", "(I)V"⟩
abbrev cX4_rules : ByteArray := prog_19_method_60_code
def yX4_rules : MethodName := ⟨RX4, "rules", "(I)I"⟩
abbrev cX4_blanks : ByteArray := prog_19_method_45_code
def yX4_blanks : MethodName := ⟨RX4, "blanks", "()V"⟩
abbrev cX4_statement : ByteArray := prog_19_method_59_code
def yX4_statement : MethodName := ⟨RX4, "statement", "(I)Z"⟩
abbrev cX4_takes : ByteArray := prog_19_method_47_code
def yX4_takes : MethodName := ⟨RX4, "takes", "(J)Z"⟩
abbrev cX4_word : ByteArray := prog_19_method_46_code
def yX4_word : MethodName := ⟨RX4, "word", "()J"⟩
abbrev cX4_plain : ByteArray := prog_19_method_55_code
def yX4_plain : MethodName := ⟨RX4, "plain", "(IIII)Z"⟩
abbrev cX4_takesNumber : ByteArray := prog_19_method_49_code
def yX4_takesNumber : MethodName := ⟨RX4, "takesNumber", "(II)Z"⟩
abbrev cX4_condition : ByteArray := prog_19_method_56_code
def yX4_condition : MethodName := ⟨RX4, "condition", "(II)Z"⟩
abbrev cX4_any : ByteArray := prog_19_method_51_code
def yX4_any : MethodName := ⟨RX4, "any", "()I"⟩
abbrev cX4_node : ByteArray := prog_19_method_50_code
def yX4_node : MethodName := ⟨RX4, "node", "(I)I"⟩
abbrev cX4_all : ByteArray := prog_19_method_52_code
def yX4_all : MethodName := ⟨RX4, "all", "()I"⟩
abbrev cX4_single : ByteArray := prog_19_method_54_code
def yX4_single : MethodName := ⟨RX4, "single", "()I"⟩
abbrev cX4_takesSign : ByteArray := prog_19_method_48_code
def yX4_takesSign : MethodName := ⟨RX4, "takesSign", "(I)Z"⟩
abbrev cX4_asked : ByteArray := prog_19_method_53_code
def yX4_asked : MethodName := ⟨RX4, "asked", "(J)I"⟩
abbrev cX4_kinds : ByteArray := prog_19_method_58_code
def yX4_kinds : MethodName := ⟨RX4, "kinds", "(I)Z"⟩
abbrev cX4_kind : ByteArray := prog_19_method_57_code
def yX4_kind : MethodName := ⟨RX4, "kind", "()I"⟩
abbrev cX4_fault : ByteArray := prog_19_method_61_code
def yX4_fault : MethodName := ⟨RX4, "fault", "()I"⟩
abbrev cX4_law : ByteArray := prog_19_method_67_code
def yX4_law : MethodName := ⟨RX4, "law", "(II)I"⟩
abbrev cX4_place_2 : ByteArray := prog_19_method_68_code
def yX4_place_2 : MethodName := ⟨RX4, "place", "(III)I"⟩
abbrev cX4_apart : ByteArray := prog_19_method_70_code
def yX4_apart : MethodName := ⟨RX4, "apart", "(I)I"⟩
abbrev cX4_areOf : ByteArray := prog_19_method_69_code
def yX4_areOf : MethodName := ⟨RX4, "areOf", "(IIII)Z"⟩
abbrev cX4_plan : ByteArray := prog_19_method_75_code
def yX4_plan : MethodName := ⟨RX4, "plan", "(III)I"⟩
abbrev cX4_makes : ByteArray := prog_19_method_71_code
def yX4_makes : MethodName := ⟨RX4, "makes", "(III)I"⟩
abbrev cX4_state : ByteArray := prog_19_method_73_code
def yX4_state : MethodName := ⟨RX4, "state", "(III)I"⟩
abbrev cX4_coins : ByteArray := prog_19_method_74_code
def yX4_coins : MethodName := ⟨RX4, "coins", "(IIII)I"⟩
abbrev cX4_bits : ByteArray := prog_19_method_72_code
def yX4_bits : MethodName := ⟨RX4, "bits", "(I)I"⟩
abbrev cX4_sum : ByteArray := prog_19_method_76_code
def yX4_sum : MethodName := ⟨RX4, "sum", "(I)J"⟩
abbrev cX4_count : ByteArray := prog_19_method_77_code
def yX4_count : MethodName := ⟨RX4, "count", "(I)I"⟩
theorem q91 : (Jvm.Cond.initialized "WindGasModel") ∈ lw_all := lw_g (lw_at lw_m1 8 rfl) rfl
theorem q487 : (Jvm.Cond.selects "WindGasModel" ({ cls := "java/lang/Object", name := "getClass", desc := "()Ljava/lang/Class;" } : Jvm.MethodName) ({ cls := "java/lang/Object", name := "getClass", desc := "()Ljava/lang/Class;" } : Jvm.MethodName)) ∈ lw_all := lw_g (lw_at lw_m2 164 rfl) rfl
theorem q1532 : (Jvm.Cond.instantiable "WindGasModel" (79 : Nat)) ∈ lw_all := lw_g (lw_at lw_m7 9 rfl) rfl
theorem q1534 : (Jvm.Cond.instanceMethod ({ cls := "WindGasModel", name := "<init>", desc := "()V" } : Jvm.MethodName)) ∈ lw_all := lw_g (lw_at lw_m7 11 rfl) rfl
theorem q1535 : (Jvm.Cond.code ({ cls := "WindGasModel", name := "<init>", desc := "()V" } : Jvm.MethodName) prog_19_method_1_code (1 : Nat) (Option.none : Option Jvm.ClassFile.FieldType)) ∈ lw_all := lw_g (lw_at lw_m7 12 rfl) rfl
theorem q1536 : (Jvm.Cond.methodLink "WindGasModel" (1 : Nat) ({ cls := "java/lang/Object", name := "<init>", desc := "()V" } : Jvm.MethodName)) ∈ lw_all := lw_g (lw_at lw_m7 13 rfl) rfl
theorem q1537 : (Jvm.Cond.constant "WindGasModel" (108 : Nat) (33360 : Int32)) ∈ lw_all := lw_g (lw_at lw_m7 14 rfl) rfl
theorem q1538 : (Jvm.Cond.fieldLink "WindGasModel" (229 : Nat) "WindGasModel" "now" "I") ∈ lw_all := lw_g (lw_at lw_m7 15 rfl) rfl
theorem q1539 : (Jvm.Cond.fieldLink "WindGasModel" (215 : Nat) "WindGasModel" "stacks" "I") ∈ lw_all := lw_g (lw_at lw_m7 16 rfl) rfl
theorem q1540 : (Jvm.Cond.fieldLink "WindGasModel" (245 : Nat) "WindGasModel" "trips" "I") ∈ lw_all := lw_g (lw_at lw_m7 17 rfl) rfl
theorem q1541 : (Jvm.Cond.fieldLink "WindGasModel" (331 : Nat) "WindGasModel" "papers" "I") ∈ lw_all := lw_g (lw_at lw_m7 18 rfl) rfl
theorem q1542 : (Jvm.Cond.fieldLink "WindGasModel" (7 : Nat) "WindGasModel" "toldMany" "[I") ∈ lw_all := lw_g (lw_at lw_m7 19 rfl) rfl
theorem q1543 : (Jvm.Cond.fieldLink "WindGasModel" (13 : Nat) "WindGasModel" "toldFrom" "[I") ∈ lw_all := lw_g (lw_at lw_m7 20 rfl) rfl
theorem q1544 : (Jvm.Cond.fieldLink "WindGasModel" (16 : Nat) "WindGasModel" "toldTo" "[I") ∈ lw_all := lw_g (lw_at lw_m7 21 rfl) rfl
theorem q1545 : (Jvm.Cond.fieldLink "WindGasModel" (19 : Nat) "WindGasModel" "toldAs" "[I") ∈ lw_all := lw_g (lw_at lw_m7 22 rfl) rfl
theorem q1546 : (Jvm.Cond.fieldLink "WindGasModel" (22 : Nat) "WindGasModel" "size" "[I") ∈ lw_all := lw_g (lw_at lw_m7 23 rfl) rfl
theorem q1547 : (Jvm.Cond.fieldLink "WindGasModel" (25 : Nat) "WindGasModel" "gives" "[I") ∈ lw_all := lw_g (lw_at lw_m7 24 rfl) rfl
theorem q1548 : (Jvm.Cond.fieldLink "WindGasModel" (28 : Nat) "WindGasModel" "dirt" "[I") ∈ lw_all := lw_g (lw_at lw_m7 25 rfl) rfl
theorem q1549 : (Jvm.Cond.fieldLink "WindGasModel" (31 : Nat) "WindGasModel" "wear" "[I") ∈ lw_all := lw_g (lw_at lw_m7 26 rfl) rfl
theorem q1550 : (Jvm.Cond.fieldLink "WindGasModel" (34 : Nat) "WindGasModel" "startsOn" "[I") ∈ lw_all := lw_g (lw_at lw_m7 27 rfl) rfl
theorem q1551 : (Jvm.Cond.fieldLink "WindGasModel" (37 : Nat) "WindGasModel" "startsIn" "[I") ∈ lw_all := lw_g (lw_at lw_m7 28 rfl) rfl
theorem q1552 : (Jvm.Cond.fieldLink "WindGasModel" (40 : Nat) "WindGasModel" "startsEver" "[I") ∈ lw_all := lw_g (lw_at lw_m7 29 rfl) rfl
theorem q1553 : (Jvm.Cond.fieldLink "WindGasModel" (43 : Nat) "WindGasModel" "runs" "[Z") ∈ lw_all := lw_g (lw_at lw_m7 30 rfl) rfl
theorem q1554 : (Jvm.Cond.fieldLink "WindGasModel" (47 : Nat) "WindGasModel" "made" "[J") ∈ lw_all := lw_g (lw_at lw_m7 31 rfl) rfl
theorem q1555 : (Jvm.Cond.fieldLink "WindGasModel" (51 : Nat) "WindGasModel" "sums" "[J") ∈ lw_all := lw_g (lw_at lw_m7 32 rfl) rfl
theorem q1556 : (Jvm.Cond.fieldLink "WindGasModel" (223 : Nat) "WindGasModel" "tankRoom" "I") ∈ lw_all := lw_g (lw_at lw_m7 33 rfl) rfl
theorem q1557 : (Jvm.Cond.fieldLink "WindGasModel" (226 : Nat) "WindGasModel" "water" "I") ∈ lw_all := lw_g (lw_at lw_m7 34 rfl) rfl
theorem q1558 : (Jvm.Cond.fieldLink "WindGasModel" (54 : Nat) "WindGasModel" "room" "[I") ∈ lw_all := lw_g (lw_at lw_m7 35 rfl) rfl
theorem q1559 : (Jvm.Cond.fieldLink "WindGasModel" (57 : Nat) "WindGasModel" "leak" "[I") ∈ lw_all := lw_g (lw_at lw_m7 36 rfl) rfl
theorem q1560 : (Jvm.Cond.fieldLink "WindGasModel" (60 : Nat) "WindGasModel" "breath" "[I") ∈ lw_all := lw_g (lw_at lw_m7 37 rfl) rfl
theorem q1561 : (Jvm.Cond.fieldLink "WindGasModel" (63 : Nat) "WindGasModel" "held" "[I") ∈ lw_all := lw_g (lw_at lw_m7 38 rfl) rfl
theorem q1562 : (Jvm.Cond.fieldLink "WindGasModel" (66 : Nat) "WindGasModel" "foul" "[I") ∈ lw_all := lw_g (lw_at lw_m7 39 rfl) rfl
theorem q1563 : (Jvm.Cond.fieldLink "WindGasModel" (69 : Nat) "WindGasModel" "lots" "[I") ∈ lw_all := lw_g (lw_at lw_m7 40 rfl) rfl
theorem q1564 : (Jvm.Cond.fieldLink "WindGasModel" (72 : Nat) "WindGasModel" "oldest" "[I") ∈ lw_all := lw_g (lw_at lw_m7 41 rfl) rfl
theorem q1565 : (Jvm.Cond.fieldLink "WindGasModel" (75 : Nat) "WindGasModel" "leaked" "[J") ∈ lw_all := lw_g (lw_at lw_m7 42 rfl) rfl
theorem q1566 : (Jvm.Cond.fieldLink "WindGasModel" (78 : Nat) "WindGasModel" "lost" "[J") ∈ lw_all := lw_g (lw_at lw_m7 43 rfl) rfl
theorem q1567 : (Jvm.Cond.fieldLink "WindGasModel" (81 : Nat) "WindGasModel" "lotHour" "[I") ∈ lw_all := lw_g (lw_at lw_m7 44 rfl) rfl
theorem q1568 : (Jvm.Cond.fieldLink "WindGasModel" (84 : Nat) "WindGasModel" "lotGrams" "[I") ∈ lw_all := lw_g (lw_at lw_m7 45 rfl) rfl
theorem q1569 : (Jvm.Cond.fieldLink "WindGasModel" (87 : Nat) "WindGasModel" "lotFoul" "[I") ∈ lw_all := lw_g (lw_at lw_m7 46 rfl) rfl
theorem q1570 : (Jvm.Cond.fieldLink "WindGasModel" (90 : Nat) "WindGasModel" "tripKind" "[I") ∈ lw_all := lw_g (lw_at lw_m7 47 rfl) rfl
theorem q1571 : (Jvm.Cond.fieldLink "WindGasModel" (93 : Nat) "WindGasModel" "tripTen" "[I") ∈ lw_all := lw_g (lw_at lw_m7 48 rfl) rfl
theorem q1572 : (Jvm.Cond.fieldLink "WindGasModel" (96 : Nat) "WindGasModel" "tripGrams" "[I") ∈ lw_all := lw_g (lw_at lw_m7 49 rfl) rfl
theorem q1573 : (Jvm.Cond.fieldLink "WindGasModel" (99 : Nat) "WindGasModel" "tripHow" "[I") ∈ lw_all := lw_g (lw_at lw_m7 50 rfl) rfl
theorem q1574 : (Jvm.Cond.fieldLink "WindGasModel" (102 : Nat) "WindGasModel" "leftAt" "[I") ∈ lw_all := lw_g (lw_at lw_m7 51 rfl) rfl
theorem q1575 : (Jvm.Cond.fieldLink "WindGasModel" (105 : Nat) "WindGasModel" "drankFoul" "[I") ∈ lw_all := lw_g (lw_at lw_m7 52 rfl) rfl
theorem q1576 : (Jvm.Cond.fieldLink "WindGasModel" (109 : Nat) "WindGasModel" "drankOf" "[I") ∈ lw_all := lw_g (lw_at lw_m7 53 rfl) rfl
theorem q1577 : (Jvm.Cond.fieldLink "WindGasModel" (248 : Nat) "WindGasModel" "breathOut" "I") ∈ lw_all := lw_g (lw_at lw_m7 54 rfl) rfl
theorem q1578 : (Jvm.Cond.fieldLink "WindGasModel" (112 : Nat) "WindGasModel" "order" "[I") ∈ lw_all := lw_g (lw_at lw_m7 55 rfl) rfl
theorem q1579 : (Jvm.Cond.fieldLink "WindGasModel" (115 : Nat) "WindGasModel" "storedThen" "[I") ∈ lw_all := lw_g (lw_at lw_m7 56 rfl) rfl
theorem q1580 : (Jvm.Cond.fieldLink "WindGasModel" (118 : Nat) "WindGasModel" "waterThen" "[I") ∈ lw_all := lw_g (lw_at lw_m7 57 rfl) rfl
theorem q1581 : (Jvm.Cond.fieldLink "WindGasModel" (121 : Nat) "WindGasModel" "runningThen" "[I") ∈ lw_all := lw_g (lw_at lw_m7 58 rfl) rfl
theorem q1582 : (Jvm.Cond.fieldLink "WindGasModel" (276 : Nat) "WindGasModel" "gasNow" "I") ∈ lw_all := lw_g (lw_at lw_m7 59 rfl) rfl
theorem q1583 : (Jvm.Cond.fieldLink "WindGasModel" (279 : Nat) "WindGasModel" "foulNow" "I") ∈ lw_all := lw_g (lw_at lw_m7 60 rfl) rfl
theorem q1584 : (Jvm.Cond.fieldLink "WindGasModel" (124 : Nat) "WindGasModel" "paperTrip" "[I") ∈ lw_all := lw_g (lw_at lw_m7 61 rfl) rfl
theorem q1585 : (Jvm.Cond.fieldLink "WindGasModel" (127 : Nat) "WindGasModel" "buyer" "[I") ∈ lw_all := lw_g (lw_at lw_m7 62 rfl) rfl
theorem q1586 : (Jvm.Cond.fieldLink "WindGasModel" (130 : Nat) "WindGasModel" "paperGrams" "[I") ∈ lw_all := lw_g (lw_at lw_m7 63 rfl) rfl
theorem q1587 : (Jvm.Cond.fieldLink "WindGasModel" (466 : Nat) "WindGasModel" "rules" "I") ∈ lw_all := lw_g (lw_at lw_m7 64 rfl) rfl
theorem q1588 : (Jvm.Cond.fieldLink "WindGasModel" (364 : Nat) "WindGasModel" "nodes" "I") ∈ lw_all := lw_g (lw_at lw_m7 65 rfl) rfl
theorem q1589 : (Jvm.Cond.fieldLink "WindGasModel" (339 : Nat) "WindGasModel" "taped" "I") ∈ lw_all := lw_g (lw_at lw_m7 66 rfl) rfl
theorem q1590 : (Jvm.Cond.fieldLink "WindGasModel" (348 : Nat) "WindGasModel" "textMany" "I") ∈ lw_all := lw_g (lw_at lw_m7 67 rfl) rfl
theorem q1591 : (Jvm.Cond.fieldLink "WindGasModel" (345 : Nat) "WindGasModel" "at" "I") ∈ lw_all := lw_g (lw_at lw_m7 68 rfl) rfl
theorem q1592 : (Jvm.Cond.fieldLink "WindGasModel" (402 : Nat) "WindGasModel" "deep" "I") ∈ lw_all := lw_g (lw_at lw_m7 69 rfl) rfl
theorem q1593 : (Jvm.Cond.fieldLink "WindGasModel" (133 : Nat) "WindGasModel" "fault" "I") ∈ lw_all := lw_g (lw_at lw_m7 70 rfl) rfl
theorem q1594 : (Jvm.Cond.fieldLink "WindGasModel" (137 : Nat) "WindGasModel" "statements" "[I") ∈ lw_all := lw_g (lw_at lw_m7 71 rfl) rfl
theorem q1595 : (Jvm.Cond.fieldLink "WindGasModel" (140 : Nat) "WindGasModel" "taken" "[I") ∈ lw_all := lw_g (lw_at lw_m7 72 rfl) rfl
theorem q1596 : (Jvm.Cond.fieldLink "WindGasModel" (143 : Nat) "WindGasModel" "sort" "[I") ∈ lw_all := lw_g (lw_at lw_m7 73 rfl) rfl
theorem q1597 : (Jvm.Cond.fieldLink "WindGasModel" (146 : Nat) "WindGasModel" "first" "[I") ∈ lw_all := lw_g (lw_at lw_m7 74 rfl) rfl
theorem q1598 : (Jvm.Cond.fieldLink "WindGasModel" (149 : Nat) "WindGasModel" "second" "[I") ∈ lw_all := lw_g (lw_at lw_m7 75 rfl) rfl
theorem q1599 : (Jvm.Cond.fieldLink "WindGasModel" (152 : Nat) "WindGasModel" "third" "[I") ∈ lw_all := lw_g (lw_at lw_m7 76 rfl) rfl
theorem q1600 : (Jvm.Cond.fieldLink "WindGasModel" (155 : Nat) "WindGasModel" "nodeKind" "[I") ∈ lw_all := lw_g (lw_at lw_m7 77 rfl) rfl
theorem q1601 : (Jvm.Cond.fieldLink "WindGasModel" (158 : Nat) "WindGasModel" "nodeFirst" "[I") ∈ lw_all := lw_g (lw_at lw_m7 78 rfl) rfl
theorem q1602 : (Jvm.Cond.fieldLink "WindGasModel" (161 : Nat) "WindGasModel" "nodeNext" "[I") ∈ lw_all := lw_g (lw_at lw_m7 79 rfl) rfl
theorem q1603 : (Jvm.Cond.fieldLink "WindGasModel" (164 : Nat) "WindGasModel" "nodeWord" "[I") ∈ lw_all := lw_g (lw_at lw_m7 80 rfl) rfl
theorem q1604 : (Jvm.Cond.fieldLink "WindGasModel" (167 : Nat) "WindGasModel" "nodeSign" "[I") ∈ lw_all := lw_g (lw_at lw_m7 81 rfl) rfl
theorem q1605 : (Jvm.Cond.fieldLink "WindGasModel" (170 : Nat) "WindGasModel" "nodeNumber" "[I") ∈ lw_all := lw_g (lw_at lw_m7 82 rfl) rfl
theorem q1606 : (Jvm.Cond.fieldLink "WindGasModel" (173 : Nat) "WindGasModel" "tape" "[B") ∈ lw_all := lw_g (lw_at lw_m7 83 rfl) rfl
theorem q1607 : (Jvm.Cond.fieldLink "WindGasModel" (177 : Nat) "WindGasModel" "text" "[B") ∈ lw_all := lw_g (lw_at lw_m7 84 rfl) rfl
theorem q1608 : (Jvm.Cond.fieldLink "WindGasModel" (180 : Nat) "WindGasModel" "here" "[J") ∈ lw_all := lw_g (lw_at lw_m7 85 rfl) rfl
theorem q1609 : (Jvm.Cond.fieldLink "WindGasModel" (354 : Nat) "WindGasModel" "wordEnd" "I") ∈ lw_all := lw_g (lw_at lw_m7 86 rfl) rfl
theorem q1610 : (Jvm.Cond.fieldLink "WindGasModel" (361 : Nat) "WindGasModel" "read" "I") ∈ lw_all := lw_g (lw_at lw_m7 87 rfl) rfl
theorem q1611 : (Jvm.Cond.fieldLink "WindGasModel" (478 : Nat) "WindGasModel" "things" "I") ∈ lw_all := lw_g (lw_at lw_m7 88 rfl) rfl
theorem q1612 : (Jvm.Cond.fieldLink "WindGasModel" (183 : Nat) "WindGasModel" "thingKind" "[I") ∈ lw_all := lw_g (lw_at lw_m7 89 rfl) rfl
theorem q1613 : (Jvm.Cond.fieldLink "WindGasModel" (186 : Nat) "WindGasModel" "thingX" "[I") ∈ lw_all := lw_g (lw_at lw_m7 90 rfl) rfl
theorem q1614 : (Jvm.Cond.fieldLink "WindGasModel" (189 : Nat) "WindGasModel" "thingY" "[I") ∈ lw_all := lw_g (lw_at lw_m7 91 rfl) rfl
theorem q1615 : (Jvm.Cond.fieldLink "WindGasModel" (192 : Nat) "WindGasModel" "least" "[I") ∈ lw_all := lw_g (lw_at lw_m7 92 rfl) rfl
theorem q1616 : (Jvm.Cond.fieldLink "WindGasModel" (195 : Nat) "WindGasModel" "hundreds" "[I") ∈ lw_all := lw_g (lw_at lw_m7 93 rfl) rfl
theorem q1617 : (Jvm.Cond.lays "WindGasModel" "WindGasModel" "now" "I") ∈ lw_all := lw_g (lw_at lw_m7 94 rfl) rfl
theorem q1618 : (Jvm.Cond.soleField "WindGasModel" "now") ∈ lw_all := lw_g (lw_at lw_m7 95 rfl) rfl
theorem q1619 : (Jvm.Cond.lays "WindGasModel" "WindGasModel" "stacks" "I") ∈ lw_all := lw_g (lw_at lw_m7 96 rfl) rfl
theorem q1620 : (Jvm.Cond.soleField "WindGasModel" "stacks") ∈ lw_all := lw_g (lw_at lw_m7 97 rfl) rfl
theorem q1621 : (Jvm.Cond.lays "WindGasModel" "WindGasModel" "trips" "I") ∈ lw_all := lw_g (lw_at lw_m7 98 rfl) rfl
theorem q1622 : (Jvm.Cond.soleField "WindGasModel" "trips") ∈ lw_all := lw_g (lw_at lw_m7 99 rfl) rfl
theorem q1623 : (Jvm.Cond.lays "WindGasModel" "WindGasModel" "papers" "I") ∈ lw_all := lw_g (lw_at lw_m7 100 rfl) rfl
theorem q1624 : (Jvm.Cond.soleField "WindGasModel" "papers") ∈ lw_all := lw_g (lw_at lw_m7 101 rfl) rfl
theorem q1625 : (Jvm.Cond.laysFinal "WindGasModel" "WindGasModel" "toldMany" "[I") ∈ lw_all := lw_g (lw_at lw_m7 102 rfl) rfl
theorem q1626 : (Jvm.Cond.soleField "WindGasModel" "toldMany") ∈ lw_all := lw_g (lw_at lw_m7 103 rfl) rfl
theorem q1627 : (Jvm.Cond.laysFinal "WindGasModel" "WindGasModel" "toldFrom" "[I") ∈ lw_all := lw_g (lw_at lw_m7 104 rfl) rfl
theorem q1628 : (Jvm.Cond.soleField "WindGasModel" "toldFrom") ∈ lw_all := lw_g (lw_at lw_m7 105 rfl) rfl
theorem q1629 : (Jvm.Cond.laysFinal "WindGasModel" "WindGasModel" "toldTo" "[I") ∈ lw_all := lw_g (lw_at lw_m7 106 rfl) rfl
theorem q1630 : (Jvm.Cond.soleField "WindGasModel" "toldTo") ∈ lw_all := lw_g (lw_at lw_m7 107 rfl) rfl
theorem q1631 : (Jvm.Cond.laysFinal "WindGasModel" "WindGasModel" "toldAs" "[I") ∈ lw_all := lw_g (lw_at lw_m7 108 rfl) rfl
theorem q1632 : (Jvm.Cond.soleField "WindGasModel" "toldAs") ∈ lw_all := lw_g (lw_at lw_m7 109 rfl) rfl
theorem q1633 : (Jvm.Cond.laysFinal "WindGasModel" "WindGasModel" "size" "[I") ∈ lw_all := lw_g (lw_at lw_m7 110 rfl) rfl
theorem q1634 : (Jvm.Cond.soleField "WindGasModel" "size") ∈ lw_all := lw_g (lw_at lw_m7 111 rfl) rfl
theorem q1635 : (Jvm.Cond.laysFinal "WindGasModel" "WindGasModel" "gives" "[I") ∈ lw_all := lw_g (lw_at lw_m7 112 rfl) rfl
theorem q1636 : (Jvm.Cond.soleField "WindGasModel" "gives") ∈ lw_all := lw_g (lw_at lw_m7 113 rfl) rfl
theorem q1637 : (Jvm.Cond.laysFinal "WindGasModel" "WindGasModel" "dirt" "[I") ∈ lw_all := lw_g (lw_at lw_m7 114 rfl) rfl
theorem q1638 : (Jvm.Cond.soleField "WindGasModel" "dirt") ∈ lw_all := lw_g (lw_at lw_m7 115 rfl) rfl
theorem q1639 : (Jvm.Cond.laysFinal "WindGasModel" "WindGasModel" "wear" "[I") ∈ lw_all := lw_g (lw_at lw_m7 116 rfl) rfl
theorem q1640 : (Jvm.Cond.soleField "WindGasModel" "wear") ∈ lw_all := lw_g (lw_at lw_m7 117 rfl) rfl
theorem q1641 : (Jvm.Cond.laysFinal "WindGasModel" "WindGasModel" "startsOn" "[I") ∈ lw_all := lw_g (lw_at lw_m7 118 rfl) rfl
theorem q1642 : (Jvm.Cond.soleField "WindGasModel" "startsOn") ∈ lw_all := lw_g (lw_at lw_m7 119 rfl) rfl
theorem q1643 : (Jvm.Cond.laysFinal "WindGasModel" "WindGasModel" "startsIn" "[I") ∈ lw_all := lw_g (lw_at lw_m7 120 rfl) rfl
theorem q1644 : (Jvm.Cond.soleField "WindGasModel" "startsIn") ∈ lw_all := lw_g (lw_at lw_m7 121 rfl) rfl
theorem q1645 : (Jvm.Cond.laysFinal "WindGasModel" "WindGasModel" "startsEver" "[I") ∈ lw_all := lw_g (lw_at lw_m7 122 rfl) rfl
theorem q1646 : (Jvm.Cond.soleField "WindGasModel" "startsEver") ∈ lw_all := lw_g (lw_at lw_m7 123 rfl) rfl
theorem q1647 : (Jvm.Cond.laysFinal "WindGasModel" "WindGasModel" "runs" "[Z") ∈ lw_all := lw_g (lw_at lw_m7 124 rfl) rfl
theorem q1648 : (Jvm.Cond.soleField "WindGasModel" "runs") ∈ lw_all := lw_g (lw_at lw_m7 125 rfl) rfl
theorem q1649 : (Jvm.Cond.laysFinal "WindGasModel" "WindGasModel" "made" "[J") ∈ lw_all := lw_g (lw_at lw_m7 126 rfl) rfl
theorem q1650 : (Jvm.Cond.soleField "WindGasModel" "made") ∈ lw_all := lw_g (lw_at lw_m7 127 rfl) rfl
theorem q1651 : (Jvm.Cond.laysFinal "WindGasModel" "WindGasModel" "sums" "[J") ∈ lw_all := lw_g (lw_at lw_m7 128 rfl) rfl
theorem q1652 : (Jvm.Cond.soleField "WindGasModel" "sums") ∈ lw_all := lw_g (lw_at lw_m7 129 rfl) rfl
theorem q1653 : (Jvm.Cond.lays "WindGasModel" "WindGasModel" "tankRoom" "I") ∈ lw_all := lw_g (lw_at lw_m7 130 rfl) rfl
theorem q1654 : (Jvm.Cond.soleField "WindGasModel" "tankRoom") ∈ lw_all := lw_g (lw_at lw_m7 131 rfl) rfl
theorem q1655 : (Jvm.Cond.lays "WindGasModel" "WindGasModel" "water" "I") ∈ lw_all := lw_g (lw_at lw_m7 132 rfl) rfl
theorem q1656 : (Jvm.Cond.soleField "WindGasModel" "water") ∈ lw_all := lw_g (lw_at lw_m7 133 rfl) rfl
theorem q1657 : (Jvm.Cond.laysFinal "WindGasModel" "WindGasModel" "room" "[I") ∈ lw_all := lw_g (lw_at lw_m7 134 rfl) rfl
theorem q1658 : (Jvm.Cond.soleField "WindGasModel" "room") ∈ lw_all := lw_g (lw_at lw_m7 135 rfl) rfl
theorem q1659 : (Jvm.Cond.laysFinal "WindGasModel" "WindGasModel" "leak" "[I") ∈ lw_all := lw_g (lw_at lw_m7 136 rfl) rfl
theorem q1660 : (Jvm.Cond.soleField "WindGasModel" "leak") ∈ lw_all := lw_g (lw_at lw_m7 137 rfl) rfl
theorem q1661 : (Jvm.Cond.laysFinal "WindGasModel" "WindGasModel" "breath" "[I") ∈ lw_all := lw_g (lw_at lw_m7 138 rfl) rfl
theorem q1662 : (Jvm.Cond.soleField "WindGasModel" "breath") ∈ lw_all := lw_g (lw_at lw_m7 139 rfl) rfl
theorem q1663 : (Jvm.Cond.laysFinal "WindGasModel" "WindGasModel" "held" "[I") ∈ lw_all := lw_g (lw_at lw_m7 140 rfl) rfl
theorem q1664 : (Jvm.Cond.soleField "WindGasModel" "held") ∈ lw_all := lw_g (lw_at lw_m7 141 rfl) rfl
theorem q1665 : (Jvm.Cond.laysFinal "WindGasModel" "WindGasModel" "foul" "[I") ∈ lw_all := lw_g (lw_at lw_m7 142 rfl) rfl
theorem q1666 : (Jvm.Cond.soleField "WindGasModel" "foul") ∈ lw_all := lw_g (lw_at lw_m7 143 rfl) rfl
theorem q1667 : (Jvm.Cond.laysFinal "WindGasModel" "WindGasModel" "lots" "[I") ∈ lw_all := lw_g (lw_at lw_m7 144 rfl) rfl
theorem q1668 : (Jvm.Cond.soleField "WindGasModel" "lots") ∈ lw_all := lw_g (lw_at lw_m7 145 rfl) rfl
theorem q1669 : (Jvm.Cond.laysFinal "WindGasModel" "WindGasModel" "oldest" "[I") ∈ lw_all := lw_g (lw_at lw_m7 146 rfl) rfl
theorem q1670 : (Jvm.Cond.soleField "WindGasModel" "oldest") ∈ lw_all := lw_g (lw_at lw_m7 147 rfl) rfl
theorem q1671 : (Jvm.Cond.laysFinal "WindGasModel" "WindGasModel" "leaked" "[J") ∈ lw_all := lw_g (lw_at lw_m7 148 rfl) rfl
theorem q1672 : (Jvm.Cond.soleField "WindGasModel" "leaked") ∈ lw_all := lw_g (lw_at lw_m7 149 rfl) rfl
theorem q1673 : (Jvm.Cond.laysFinal "WindGasModel" "WindGasModel" "lost" "[J") ∈ lw_all := lw_g (lw_at lw_m7 150 rfl) rfl
theorem q1674 : (Jvm.Cond.soleField "WindGasModel" "lost") ∈ lw_all := lw_g (lw_at lw_m7 151 rfl) rfl
theorem q1675 : (Jvm.Cond.laysFinal "WindGasModel" "WindGasModel" "lotHour" "[I") ∈ lw_all := lw_g (lw_at lw_m7 152 rfl) rfl
theorem q1676 : (Jvm.Cond.soleField "WindGasModel" "lotHour") ∈ lw_all := lw_g (lw_at lw_m7 153 rfl) rfl
theorem q1677 : (Jvm.Cond.laysFinal "WindGasModel" "WindGasModel" "lotGrams" "[I") ∈ lw_all := lw_g (lw_at lw_m7 154 rfl) rfl
theorem q1678 : (Jvm.Cond.soleField "WindGasModel" "lotGrams") ∈ lw_all := lw_g (lw_at lw_m7 155 rfl) rfl
theorem q1679 : (Jvm.Cond.laysFinal "WindGasModel" "WindGasModel" "lotFoul" "[I") ∈ lw_all := lw_g (lw_at lw_m7 156 rfl) rfl
theorem q1680 : (Jvm.Cond.soleField "WindGasModel" "lotFoul") ∈ lw_all := lw_g (lw_at lw_m7 157 rfl) rfl
theorem q1681 : (Jvm.Cond.laysFinal "WindGasModel" "WindGasModel" "tripKind" "[I") ∈ lw_all := lw_g (lw_at lw_m7 158 rfl) rfl
theorem q1682 : (Jvm.Cond.soleField "WindGasModel" "tripKind") ∈ lw_all := lw_g (lw_at lw_m7 159 rfl) rfl
theorem q1683 : (Jvm.Cond.laysFinal "WindGasModel" "WindGasModel" "tripTen" "[I") ∈ lw_all := lw_g (lw_at lw_m7 160 rfl) rfl
theorem q1684 : (Jvm.Cond.soleField "WindGasModel" "tripTen") ∈ lw_all := lw_g (lw_at lw_m7 161 rfl) rfl
theorem q1685 : (Jvm.Cond.laysFinal "WindGasModel" "WindGasModel" "tripGrams" "[I") ∈ lw_all := lw_g (lw_at lw_m7 162 rfl) rfl
theorem q1686 : (Jvm.Cond.soleField "WindGasModel" "tripGrams") ∈ lw_all := lw_g (lw_at lw_m7 163 rfl) rfl
theorem q1687 : (Jvm.Cond.laysFinal "WindGasModel" "WindGasModel" "tripHow" "[I") ∈ lw_all := lw_g (lw_at lw_m7 164 rfl) rfl
theorem q1688 : (Jvm.Cond.soleField "WindGasModel" "tripHow") ∈ lw_all := lw_g (lw_at lw_m7 165 rfl) rfl
theorem q1689 : (Jvm.Cond.laysFinal "WindGasModel" "WindGasModel" "leftAt" "[I") ∈ lw_all := lw_g (lw_at lw_m7 166 rfl) rfl
theorem q1690 : (Jvm.Cond.soleField "WindGasModel" "leftAt") ∈ lw_all := lw_g (lw_at lw_m7 167 rfl) rfl
theorem q1691 : (Jvm.Cond.laysFinal "WindGasModel" "WindGasModel" "drankFoul" "[I") ∈ lw_all := lw_g (lw_at lw_m7 168 rfl) rfl
theorem q1692 : (Jvm.Cond.soleField "WindGasModel" "drankFoul") ∈ lw_all := lw_g (lw_at lw_m7 169 rfl) rfl
theorem q1693 : (Jvm.Cond.laysFinal "WindGasModel" "WindGasModel" "drankOf" "[I") ∈ lw_all := lw_g (lw_at lw_m7 170 rfl) rfl
theorem q1694 : (Jvm.Cond.soleField "WindGasModel" "drankOf") ∈ lw_all := lw_g (lw_at lw_m7 171 rfl) rfl
theorem q1695 : (Jvm.Cond.lays "WindGasModel" "WindGasModel" "breathOut" "I") ∈ lw_all := lw_g (lw_at lw_m7 172 rfl) rfl
theorem q1696 : (Jvm.Cond.soleField "WindGasModel" "breathOut") ∈ lw_all := lw_g (lw_at lw_m7 173 rfl) rfl
theorem q1697 : (Jvm.Cond.laysFinal "WindGasModel" "WindGasModel" "order" "[I") ∈ lw_all := lw_g (lw_at lw_m7 174 rfl) rfl
theorem q1698 : (Jvm.Cond.soleField "WindGasModel" "order") ∈ lw_all := lw_g (lw_at lw_m7 175 rfl) rfl
theorem q1699 : (Jvm.Cond.laysFinal "WindGasModel" "WindGasModel" "storedThen" "[I") ∈ lw_all := lw_g (lw_at lw_m7 176 rfl) rfl
theorem q1700 : (Jvm.Cond.soleField "WindGasModel" "storedThen") ∈ lw_all := lw_g (lw_at lw_m7 177 rfl) rfl
theorem q1701 : (Jvm.Cond.laysFinal "WindGasModel" "WindGasModel" "waterThen" "[I") ∈ lw_all := lw_g (lw_at lw_m7 178 rfl) rfl
theorem q1702 : (Jvm.Cond.soleField "WindGasModel" "waterThen") ∈ lw_all := lw_g (lw_at lw_m7 179 rfl) rfl
theorem q1703 : (Jvm.Cond.laysFinal "WindGasModel" "WindGasModel" "runningThen" "[I") ∈ lw_all := lw_g (lw_at lw_m7 180 rfl) rfl
theorem q1704 : (Jvm.Cond.soleField "WindGasModel" "runningThen") ∈ lw_all := lw_g (lw_at lw_m7 181 rfl) rfl
theorem q1705 : (Jvm.Cond.lays "WindGasModel" "WindGasModel" "gasNow" "I") ∈ lw_all := lw_g (lw_at lw_m7 182 rfl) rfl
theorem q1706 : (Jvm.Cond.soleField "WindGasModel" "gasNow") ∈ lw_all := lw_g (lw_at lw_m7 183 rfl) rfl
theorem q1707 : (Jvm.Cond.lays "WindGasModel" "WindGasModel" "foulNow" "I") ∈ lw_all := lw_g (lw_at lw_m7 184 rfl) rfl
theorem q1708 : (Jvm.Cond.soleField "WindGasModel" "foulNow") ∈ lw_all := lw_g (lw_at lw_m7 185 rfl) rfl
theorem q1709 : (Jvm.Cond.laysFinal "WindGasModel" "WindGasModel" "paperTrip" "[I") ∈ lw_all := lw_g (lw_at lw_m7 186 rfl) rfl
theorem q1710 : (Jvm.Cond.soleField "WindGasModel" "paperTrip") ∈ lw_all := lw_g (lw_at lw_m7 187 rfl) rfl
theorem q1711 : (Jvm.Cond.laysFinal "WindGasModel" "WindGasModel" "buyer" "[I") ∈ lw_all := lw_g (lw_at lw_m7 188 rfl) rfl
theorem q1712 : (Jvm.Cond.soleField "WindGasModel" "buyer") ∈ lw_all := lw_g (lw_at lw_m7 189 rfl) rfl
theorem q1713 : (Jvm.Cond.laysFinal "WindGasModel" "WindGasModel" "paperGrams" "[I") ∈ lw_all := lw_g (lw_at lw_m7 190 rfl) rfl
theorem q1714 : (Jvm.Cond.soleField "WindGasModel" "paperGrams") ∈ lw_all := lw_g (lw_at lw_m7 191 rfl) rfl
theorem q1715 : (Jvm.Cond.lays "WindGasModel" "WindGasModel" "rules" "I") ∈ lw_all := lw_g (lw_at lw_m7 192 rfl) rfl
theorem q1716 : (Jvm.Cond.soleField "WindGasModel" "rules") ∈ lw_all := lw_g (lw_at lw_m7 193 rfl) rfl
theorem q1717 : (Jvm.Cond.lays "WindGasModel" "WindGasModel" "nodes" "I") ∈ lw_all := lw_g (lw_at lw_m7 194 rfl) rfl
theorem q1718 : (Jvm.Cond.soleField "WindGasModel" "nodes") ∈ lw_all := lw_g (lw_at lw_m7 195 rfl) rfl
theorem q1719 : (Jvm.Cond.lays "WindGasModel" "WindGasModel" "taped" "I") ∈ lw_all := lw_g (lw_at lw_m7 196 rfl) rfl
theorem q1720 : (Jvm.Cond.soleField "WindGasModel" "taped") ∈ lw_all := lw_g (lw_at lw_m7 197 rfl) rfl
theorem q1721 : (Jvm.Cond.lays "WindGasModel" "WindGasModel" "textMany" "I") ∈ lw_all := lw_g (lw_at lw_m7 198 rfl) rfl
theorem q1722 : (Jvm.Cond.soleField "WindGasModel" "textMany") ∈ lw_all := lw_g (lw_at lw_m7 199 rfl) rfl
theorem q1723 : (Jvm.Cond.lays "WindGasModel" "WindGasModel" "at" "I") ∈ lw_all := lw_g (lw_at lw_m7 200 rfl) rfl
theorem q1724 : (Jvm.Cond.soleField "WindGasModel" "at") ∈ lw_all := lw_g (lw_at lw_m7 201 rfl) rfl
theorem q1725 : (Jvm.Cond.lays "WindGasModel" "WindGasModel" "deep" "I") ∈ lw_all := lw_g (lw_at lw_m7 202 rfl) rfl
theorem q1726 : (Jvm.Cond.soleField "WindGasModel" "deep") ∈ lw_all := lw_g (lw_at lw_m7 203 rfl) rfl
theorem q1727 : (Jvm.Cond.lays "WindGasModel" "WindGasModel" "fault" "I") ∈ lw_all := lw_g (lw_at lw_m7 204 rfl) rfl
theorem q1728 : (Jvm.Cond.soleField "WindGasModel" "fault") ∈ lw_all := lw_g (lw_at lw_m7 205 rfl) rfl
theorem q1729 : (Jvm.Cond.laysFinal "WindGasModel" "WindGasModel" "statements" "[I") ∈ lw_all := lw_g (lw_at lw_m7 206 rfl) rfl
theorem q1730 : (Jvm.Cond.soleField "WindGasModel" "statements") ∈ lw_all := lw_g (lw_at lw_m7 207 rfl) rfl
theorem q1731 : (Jvm.Cond.laysFinal "WindGasModel" "WindGasModel" "taken" "[I") ∈ lw_all := lw_g (lw_at lw_m7 208 rfl) rfl
theorem q1732 : (Jvm.Cond.soleField "WindGasModel" "taken") ∈ lw_all := lw_g (lw_at lw_m7 209 rfl) rfl
theorem q1733 : (Jvm.Cond.laysFinal "WindGasModel" "WindGasModel" "sort" "[I") ∈ lw_all := lw_g (lw_at lw_m7 210 rfl) rfl
theorem q1734 : (Jvm.Cond.soleField "WindGasModel" "sort") ∈ lw_all := lw_g (lw_at lw_m7 211 rfl) rfl
theorem q1735 : (Jvm.Cond.laysFinal "WindGasModel" "WindGasModel" "first" "[I") ∈ lw_all := lw_g (lw_at lw_m7 212 rfl) rfl
theorem q1736 : (Jvm.Cond.soleField "WindGasModel" "first") ∈ lw_all := lw_g (lw_at lw_m7 213 rfl) rfl
theorem q1737 : (Jvm.Cond.laysFinal "WindGasModel" "WindGasModel" "second" "[I") ∈ lw_all := lw_g (lw_at lw_m7 214 rfl) rfl
theorem q1738 : (Jvm.Cond.soleField "WindGasModel" "second") ∈ lw_all := lw_g (lw_at lw_m7 215 rfl) rfl
theorem q1739 : (Jvm.Cond.laysFinal "WindGasModel" "WindGasModel" "third" "[I") ∈ lw_all := lw_g (lw_at lw_m7 216 rfl) rfl
theorem q1740 : (Jvm.Cond.soleField "WindGasModel" "third") ∈ lw_all := lw_g (lw_at lw_m7 217 rfl) rfl
theorem q1741 : (Jvm.Cond.laysFinal "WindGasModel" "WindGasModel" "nodeKind" "[I") ∈ lw_all := lw_g (lw_at lw_m7 218 rfl) rfl
theorem q1742 : (Jvm.Cond.soleField "WindGasModel" "nodeKind") ∈ lw_all := lw_g (lw_at lw_m7 219 rfl) rfl
theorem q1743 : (Jvm.Cond.laysFinal "WindGasModel" "WindGasModel" "nodeFirst" "[I") ∈ lw_all := lw_g (lw_at lw_m7 220 rfl) rfl
theorem q1744 : (Jvm.Cond.soleField "WindGasModel" "nodeFirst") ∈ lw_all := lw_g (lw_at lw_m7 221 rfl) rfl
theorem q1745 : (Jvm.Cond.laysFinal "WindGasModel" "WindGasModel" "nodeNext" "[I") ∈ lw_all := lw_g (lw_at lw_m7 222 rfl) rfl
theorem q1746 : (Jvm.Cond.soleField "WindGasModel" "nodeNext") ∈ lw_all := lw_g (lw_at lw_m7 223 rfl) rfl
theorem q1747 : (Jvm.Cond.laysFinal "WindGasModel" "WindGasModel" "nodeWord" "[I") ∈ lw_all := lw_g (lw_at lw_m7 224 rfl) rfl
theorem q1748 : (Jvm.Cond.soleField "WindGasModel" "nodeWord") ∈ lw_all := lw_g (lw_at lw_m7 225 rfl) rfl
theorem q1749 : (Jvm.Cond.laysFinal "WindGasModel" "WindGasModel" "nodeSign" "[I") ∈ lw_all := lw_g (lw_at lw_m7 226 rfl) rfl
theorem q1750 : (Jvm.Cond.soleField "WindGasModel" "nodeSign") ∈ lw_all := lw_g (lw_at lw_m7 227 rfl) rfl
theorem q1751 : (Jvm.Cond.laysFinal "WindGasModel" "WindGasModel" "nodeNumber" "[I") ∈ lw_all := lw_g (lw_at lw_m7 228 rfl) rfl
theorem q1752 : (Jvm.Cond.soleField "WindGasModel" "nodeNumber") ∈ lw_all := lw_g (lw_at lw_m7 229 rfl) rfl
theorem q1753 : (Jvm.Cond.laysFinal "WindGasModel" "WindGasModel" "tape" "[B") ∈ lw_all := lw_g (lw_at lw_m7 230 rfl) rfl
theorem q1754 : (Jvm.Cond.soleField "WindGasModel" "tape") ∈ lw_all := lw_g (lw_at lw_m7 231 rfl) rfl
theorem q1755 : (Jvm.Cond.laysFinal "WindGasModel" "WindGasModel" "text" "[B") ∈ lw_all := lw_g (lw_at lw_m7 232 rfl) rfl
theorem q1756 : (Jvm.Cond.soleField "WindGasModel" "text") ∈ lw_all := lw_g (lw_at lw_m7 233 rfl) rfl
theorem q1757 : (Jvm.Cond.laysFinal "WindGasModel" "WindGasModel" "here" "[J") ∈ lw_all := lw_g (lw_at lw_m7 234 rfl) rfl
theorem q1758 : (Jvm.Cond.soleField "WindGasModel" "here") ∈ lw_all := lw_g (lw_at lw_m7 235 rfl) rfl
theorem q1759 : (Jvm.Cond.lays "WindGasModel" "WindGasModel" "wordEnd" "I") ∈ lw_all := lw_g (lw_at lw_m7 236 rfl) rfl
theorem q1760 : (Jvm.Cond.soleField "WindGasModel" "wordEnd") ∈ lw_all := lw_g (lw_at lw_m7 237 rfl) rfl
theorem q1761 : (Jvm.Cond.lays "WindGasModel" "WindGasModel" "read" "I") ∈ lw_all := lw_g (lw_at lw_m7 238 rfl) rfl
theorem q1762 : (Jvm.Cond.soleField "WindGasModel" "read") ∈ lw_all := lw_g (lw_at lw_m7 239 rfl) rfl
theorem q1763 : (Jvm.Cond.lays "WindGasModel" "WindGasModel" "things" "I") ∈ lw_all := lw_g (lw_at lw_m8 0 rfl) rfl
theorem q1764 : (Jvm.Cond.soleField "WindGasModel" "things") ∈ lw_all := lw_g (lw_at lw_m8 1 rfl) rfl
theorem q1765 : (Jvm.Cond.laysFinal "WindGasModel" "WindGasModel" "thingKind" "[I") ∈ lw_all := lw_g (lw_at lw_m8 2 rfl) rfl
theorem q1766 : (Jvm.Cond.soleField "WindGasModel" "thingKind") ∈ lw_all := lw_g (lw_at lw_m8 3 rfl) rfl
theorem q1767 : (Jvm.Cond.laysFinal "WindGasModel" "WindGasModel" "thingX" "[I") ∈ lw_all := lw_g (lw_at lw_m8 4 rfl) rfl
theorem q1768 : (Jvm.Cond.soleField "WindGasModel" "thingX") ∈ lw_all := lw_g (lw_at lw_m8 5 rfl) rfl
theorem q1769 : (Jvm.Cond.laysFinal "WindGasModel" "WindGasModel" "thingY" "[I") ∈ lw_all := lw_g (lw_at lw_m8 6 rfl) rfl
theorem q1770 : (Jvm.Cond.soleField "WindGasModel" "thingY") ∈ lw_all := lw_g (lw_at lw_m8 7 rfl) rfl
theorem q1771 : (Jvm.Cond.laysFinal "WindGasModel" "WindGasModel" "least" "[I") ∈ lw_all := lw_g (lw_at lw_m8 8 rfl) rfl
theorem q1772 : (Jvm.Cond.soleField "WindGasModel" "least") ∈ lw_all := lw_g (lw_at lw_m8 9 rfl) rfl
theorem q1773 : (Jvm.Cond.laysFinal "WindGasModel" "WindGasModel" "hundreds" "[I") ∈ lw_all := lw_g (lw_at lw_m8 10 rfl) rfl
theorem q1774 : (Jvm.Cond.soleField "WindGasModel" "hundreds") ∈ lw_all := lw_g (lw_at lw_m8 11 rfl) rfl
theorem q1775 : (Jvm.Cond.superclass "WindGasModel" "java/lang/Object") ∈ lw_all := lw_g (lw_at lw_m8 12 rfl) rfl
theorem q1778 : (Jvm.Cond.instanceMethod ({ cls := "WindGasModel", name := "tell", desc := "(IIII)Z" } : Jvm.MethodName)) ∈ lw_all := lw_g (lw_at lw_m8 15 rfl) rfl
theorem q1779 : (Jvm.Cond.selects "WindGasModel" ({ cls := "WindGasModel", name := "tell", desc := "(IIII)Z" } : Jvm.MethodName) ({ cls := "WindGasModel", name := "tell", desc := "(IIII)Z" } : Jvm.MethodName)) ∈ lw_all := lw_g (lw_at lw_m8 16 rfl) rfl
theorem q1780 : (Jvm.Cond.code ({ cls := "WindGasModel", name := "tell", desc := "(IIII)Z" } : Jvm.MethodName) prog_19_method_6_code (6 : Nat) (Option.some Jvm.ClassFile.FieldType.boolean)) ∈ lw_all := lw_g (lw_at lw_m8 17 rfl) rfl
theorem q1781 : (Jvm.Cond.methodLink "WindGasModel" (198 : Nat) ({ cls := "WindGasModel", name := "isIn", desc := "(III)Z" } : Jvm.MethodName)) ∈ lw_all := lw_g (lw_at lw_m8 18 rfl) rfl
theorem q1782 : (Jvm.Cond.static ({ cls := "WindGasModel", name := "isIn", desc := "(III)Z" } : Jvm.MethodName)) ∈ lw_all := lw_g (lw_at lw_m8 19 rfl) rfl
theorem q1783 : (Jvm.Cond.code ({ cls := "WindGasModel", name := "isIn", desc := "(III)Z" } : Jvm.MethodName) prog_19_method_2_code (3 : Nat) (Option.some Jvm.ClassFile.FieldType.boolean)) ∈ lw_all := lw_g (lw_at lw_m8 20 rfl) rfl
theorem q1784 : (Jvm.Cond.methodLink "WindGasModel" (202 : Nat) ({ cls := "WindGasModel", name := "isTen", desc := "(I)Z" } : Jvm.MethodName)) ∈ lw_all := lw_g (lw_at lw_m8 21 rfl) rfl
theorem q1785 : (Jvm.Cond.static ({ cls := "WindGasModel", name := "isTen", desc := "(I)Z" } : Jvm.MethodName)) ∈ lw_all := lw_g (lw_at lw_m8 22 rfl) rfl
theorem q1786 : (Jvm.Cond.code ({ cls := "WindGasModel", name := "isTen", desc := "(I)Z" } : Jvm.MethodName) prog_19_method_4_code (1 : Nat) (Option.some Jvm.ClassFile.FieldType.boolean)) ∈ lw_all := lw_g (lw_at lw_m8 23 rfl) rfl
theorem q1787 : (Jvm.Cond.methodLink "WindGasModel" (206 : Nat) ({ cls := "WindGasModel", name := "isTold", desc := "(II)Z" } : Jvm.MethodName)) ∈ lw_all := lw_g (lw_at lw_m8 24 rfl) rfl
theorem q1788 : (Jvm.Cond.static ({ cls := "WindGasModel", name := "isTold", desc := "(II)Z" } : Jvm.MethodName)) ∈ lw_all := lw_g (lw_at lw_m8 25 rfl) rfl
theorem q1789 : (Jvm.Cond.code ({ cls := "WindGasModel", name := "isTold", desc := "(II)Z" } : Jvm.MethodName) prog_19_method_5_code (2 : Nat) (Option.some Jvm.ClassFile.FieldType.boolean)) ∈ lw_all := lw_g (lw_at lw_m8 26 rfl) rfl
theorem q1791 : (Jvm.Cond.instanceMethod ({ cls := "WindGasModel", name := "said", desc := "(II)I" } : Jvm.MethodName)) ∈ lw_all := lw_g (lw_at lw_m8 28 rfl) rfl
theorem q1792 : (Jvm.Cond.selects "WindGasModel" ({ cls := "WindGasModel", name := "said", desc := "(II)I" } : Jvm.MethodName) ({ cls := "WindGasModel", name := "said", desc := "(II)I" } : Jvm.MethodName)) ∈ lw_all := lw_g (lw_at lw_m8 29 rfl) rfl
theorem q1793 : (Jvm.Cond.code ({ cls := "WindGasModel", name := "said", desc := "(II)I" } : Jvm.MethodName) prog_19_method_8_code (3 : Nat) (Option.some Jvm.ClassFile.FieldType.int)) ∈ lw_all := lw_g (lw_at lw_m8 30 rfl) rfl
theorem q1794 : (Jvm.Cond.methodLink "WindGasModel" (210 : Nat) ({ cls := "WindGasModel", name := "saidOf", desc := "(II)I" } : Jvm.MethodName)) ∈ lw_all := lw_g (lw_at lw_m8 31 rfl) rfl
theorem q1795 : (Jvm.Cond.privateMethod ({ cls := "WindGasModel", name := "saidOf", desc := "(II)I" } : Jvm.MethodName)) ∈ lw_tbl := lw_at lw_m8 32 rfl
theorem q1796 : (Jvm.Cond.instanceMethod ({ cls := "WindGasModel", name := "saidOf", desc := "(II)I" } : Jvm.MethodName)) ∈ lw_all := lw_g (lw_at lw_m8 33 rfl) rfl
theorem q1797 : (Jvm.Cond.code ({ cls := "WindGasModel", name := "saidOf", desc := "(II)I" } : Jvm.MethodName) prog_19_method_7_code (5 : Nat) (Option.some Jvm.ClassFile.FieldType.int)) ∈ lw_all := lw_g (lw_at lw_m8 34 rfl) rfl
theorem q1798 : (Jvm.Cond.constant "WindGasModel" (214 : Nat) (-100000 : Int32)) ∈ lw_all := lw_g (lw_at lw_m8 35 rfl) rfl
theorem q1800 : (Jvm.Cond.instanceMethod ({ cls := "WindGasModel", name := "stack", desc := "(III)I" } : Jvm.MethodName)) ∈ lw_all := lw_g (lw_at lw_m8 37 rfl) rfl
theorem q1801 : (Jvm.Cond.selects "WindGasModel" ({ cls := "WindGasModel", name := "stack", desc := "(III)I" } : Jvm.MethodName) ({ cls := "WindGasModel", name := "stack", desc := "(III)I" } : Jvm.MethodName)) ∈ lw_all := lw_g (lw_at lw_m8 38 rfl) rfl
theorem q1802 : (Jvm.Cond.code ({ cls := "WindGasModel", name := "stack", desc := "(III)I" } : Jvm.MethodName) prog_19_method_9_code (4 : Nat) (Option.some Jvm.ClassFile.FieldType.int)) ∈ lw_all := lw_g (lw_at lw_m8 39 rfl) rfl
theorem q1804 : (Jvm.Cond.instanceMethod ({ cls := "WindGasModel", name := "store", desc := "(IIII)Z" } : Jvm.MethodName)) ∈ lw_all := lw_g (lw_at lw_m8 41 rfl) rfl
theorem q1805 : (Jvm.Cond.selects "WindGasModel" ({ cls := "WindGasModel", name := "store", desc := "(IIII)Z" } : Jvm.MethodName) ({ cls := "WindGasModel", name := "store", desc := "(IIII)Z" } : Jvm.MethodName)) ∈ lw_all := lw_g (lw_at lw_m8 42 rfl) rfl
theorem q1806 : (Jvm.Cond.code ({ cls := "WindGasModel", name := "store", desc := "(IIII)Z" } : Jvm.MethodName) prog_19_method_11_code (5 : Nat) (Option.some Jvm.ClassFile.FieldType.boolean)) ∈ lw_all := lw_g (lw_at lw_m8 43 rfl) rfl
theorem q1807 : (Jvm.Cond.methodLink "WindGasModel" (218 : Nat) ({ cls := "WindGasModel", name := "isStore", desc := "(I)Z" } : Jvm.MethodName)) ∈ lw_all := lw_g (lw_at lw_m8 44 rfl) rfl
theorem q1808 : (Jvm.Cond.static ({ cls := "WindGasModel", name := "isStore", desc := "(I)Z" } : Jvm.MethodName)) ∈ lw_all := lw_g (lw_at lw_m8 45 rfl) rfl
theorem q1809 : (Jvm.Cond.code ({ cls := "WindGasModel", name := "isStore", desc := "(I)Z" } : Jvm.MethodName) prog_19_method_10_code (1 : Nat) (Option.some Jvm.ClassFile.FieldType.boolean)) ∈ lw_all := lw_g (lw_at lw_m8 46 rfl) rfl
theorem q1810 : (Jvm.Cond.constant "WindGasModel" (221 : Nat) (1000000 : Int32)) ∈ lw_all := lw_g (lw_at lw_m8 47 rfl) rfl
theorem q1812 : (Jvm.Cond.instanceMethod ({ cls := "WindGasModel", name := "tank", desc := "(II)Z" } : Jvm.MethodName)) ∈ lw_all := lw_g (lw_at lw_m8 49 rfl) rfl
theorem q1813 : (Jvm.Cond.selects "WindGasModel" ({ cls := "WindGasModel", name := "tank", desc := "(II)Z" } : Jvm.MethodName) ({ cls := "WindGasModel", name := "tank", desc := "(II)Z" } : Jvm.MethodName)) ∈ lw_all := lw_g (lw_at lw_m8 50 rfl) rfl
theorem q1814 : (Jvm.Cond.code ({ cls := "WindGasModel", name := "tank", desc := "(II)Z" } : Jvm.MethodName) prog_19_method_12_code (3 : Nat) (Option.some Jvm.ClassFile.FieldType.boolean)) ∈ lw_all := lw_g (lw_at lw_m8 51 rfl) rfl
theorem q1815 : (Jvm.Cond.constant "WindGasModel" (222 : Nat) (100000 : Int32)) ∈ lw_all := lw_g (lw_at lw_m8 52 rfl) rfl
theorem q1817 : (Jvm.Cond.instanceMethod ({ cls := "WindGasModel", name := "trip", desc := "(III)I" } : Jvm.MethodName)) ∈ lw_all := lw_g (lw_at lw_m8 54 rfl) rfl
theorem q1818 : (Jvm.Cond.selects "WindGasModel" ({ cls := "WindGasModel", name := "trip", desc := "(III)I" } : Jvm.MethodName) ({ cls := "WindGasModel", name := "trip", desc := "(III)I" } : Jvm.MethodName)) ∈ lw_all := lw_g (lw_at lw_m8 55 rfl) rfl
theorem q1819 : (Jvm.Cond.code ({ cls := "WindGasModel", name := "trip", desc := "(III)I" } : Jvm.MethodName) prog_19_method_18_code (4 : Nat) (Option.some Jvm.ClassFile.FieldType.int)) ∈ lw_all := lw_g (lw_at lw_m8 56 rfl) rfl
theorem q1820 : (Jvm.Cond.constant "WindGasModel" (244 : Nat) (50000 : Int32)) ∈ lw_all := lw_g (lw_at lw_m8 57 rfl) rfl
theorem q1822 : (Jvm.Cond.instanceMethod ({ cls := "WindGasModel", name := "pass", desc := "(I)I" } : Jvm.MethodName)) ∈ lw_all := lw_g (lw_at lw_m8 59 rfl) rfl
theorem q1823 : (Jvm.Cond.selects "WindGasModel" ({ cls := "WindGasModel", name := "pass", desc := "(I)I" } : Jvm.MethodName) ({ cls := "WindGasModel", name := "pass", desc := "(I)I" } : Jvm.MethodName)) ∈ lw_all := lw_g (lw_at lw_m8 60 rfl) rfl
theorem q1824 : (Jvm.Cond.code ({ cls := "WindGasModel", name := "pass", desc := "(I)I" } : Jvm.MethodName) prog_19_method_28_code (3 : Nat) (Option.some Jvm.ClassFile.FieldType.int)) ∈ lw_all := lw_g (lw_at lw_m8 61 rfl) rfl
theorem q1825 : (Jvm.Cond.methodLink "WindGasModel" (311 : Nat) ({ cls := "WindGasModel", name := "ten", desc := "()V" } : Jvm.MethodName)) ∈ lw_all := lw_g (lw_at lw_m8 62 rfl) rfl
theorem q1826 : (Jvm.Cond.privateMethod ({ cls := "WindGasModel", name := "ten", desc := "()V" } : Jvm.MethodName)) ∈ lw_tbl := lw_at lw_m8 63 rfl
theorem q1827 : (Jvm.Cond.instanceMethod ({ cls := "WindGasModel", name := "ten", desc := "()V" } : Jvm.MethodName)) ∈ lw_all := lw_g (lw_at lw_m8 64 rfl) rfl
theorem q1828 : (Jvm.Cond.code ({ cls := "WindGasModel", name := "ten", desc := "()V" } : Jvm.MethodName) prog_19_method_26_code (11 : Nat) (Option.none : Option Jvm.ClassFile.FieldType)) ∈ lw_all := lw_g (lw_at lw_m8 65 rfl) rfl
theorem q1829 : (Jvm.Cond.methodLink "WindGasModel" (282 : Nat) ({ cls := "WindGasModel", name := "inForce", desc := "(I)I" } : Jvm.MethodName)) ∈ lw_all := lw_g (lw_at lw_m8 66 rfl) rfl
theorem q1830 : (Jvm.Cond.privateMethod ({ cls := "WindGasModel", name := "inForce", desc := "(I)I" } : Jvm.MethodName)) ∈ lw_tbl := lw_at lw_m8 67 rfl
theorem q1831 : (Jvm.Cond.instanceMethod ({ cls := "WindGasModel", name := "inForce", desc := "(I)I" } : Jvm.MethodName)) ∈ lw_all := lw_g (lw_at lw_m8 68 rfl) rfl
theorem q1832 : (Jvm.Cond.code ({ cls := "WindGasModel", name := "inForce", desc := "(I)I" } : Jvm.MethodName) prog_19_method_62_code (4 : Nat) (Option.some Jvm.ClassFile.FieldType.int)) ∈ lw_all := lw_g (lw_at lw_m8 69 rfl) rfl
theorem q1833 : (Jvm.Cond.methodLink "WindGasModel" (286 : Nat) ({ cls := "WindGasModel", name := "runningNow", desc := "()I" } : Jvm.MethodName)) ∈ lw_all := lw_g (lw_at lw_m8 70 rfl) rfl
theorem q1834 : (Jvm.Cond.privateMethod ({ cls := "WindGasModel", name := "runningNow", desc := "()I" } : Jvm.MethodName)) ∈ lw_tbl := lw_at lw_m8 71 rfl
theorem q1835 : (Jvm.Cond.instanceMethod ({ cls := "WindGasModel", name := "runningNow", desc := "()I" } : Jvm.MethodName)) ∈ lw_all := lw_g (lw_at lw_m8 72 rfl) rfl
theorem q1836 : (Jvm.Cond.code ({ cls := "WindGasModel", name := "runningNow", desc := "()I" } : Jvm.MethodName) prog_19_method_24_code (3 : Nat) (Option.some Jvm.ClassFile.FieldType.int)) ∈ lw_all := lw_g (lw_at lw_m8 73 rfl) rfl
theorem q1837 : (Jvm.Cond.methodLink "WindGasModel" (266 : Nat) ({ cls := "WindGasModel", name := "one", desc := "(Z)I" } : Jvm.MethodName)) ∈ lw_all := lw_g (lw_at lw_m8 74 rfl) rfl
theorem q1838 : (Jvm.Cond.static ({ cls := "WindGasModel", name := "one", desc := "(Z)I" } : Jvm.MethodName)) ∈ lw_all := lw_g (lw_at lw_m8 75 rfl) rfl
theorem q1839 : (Jvm.Cond.code ({ cls := "WindGasModel", name := "one", desc := "(Z)I" } : Jvm.MethodName) prog_19_method_3_code (1 : Nat) (Option.some Jvm.ClassFile.FieldType.int)) ∈ lw_all := lw_g (lw_at lw_m8 76 rfl) rfl
theorem q1840 : (Jvm.Cond.methodLink "WindGasModel" (290 : Nat) ({ cls := "WindGasModel", name := "asks", desc := "(IIIIII)Z" } : Jvm.MethodName)) ∈ lw_all := lw_g (lw_at lw_m8 77 rfl) rfl
theorem q1841 : (Jvm.Cond.privateMethod ({ cls := "WindGasModel", name := "asks", desc := "(IIIIII)Z" } : Jvm.MethodName)) ∈ lw_tbl := lw_at lw_m8 78 rfl
theorem q1842 : (Jvm.Cond.instanceMethod ({ cls := "WindGasModel", name := "asks", desc := "(IIIIII)Z" } : Jvm.MethodName)) ∈ lw_all := lw_g (lw_at lw_m8 79 rfl) rfl
theorem q1843 : (Jvm.Cond.code ({ cls := "WindGasModel", name := "asks", desc := "(IIIIII)Z" } : Jvm.MethodName) prog_19_method_65_code (9 : Nat) (Option.some Jvm.ClassFile.FieldType.boolean)) ∈ lw_all := lw_g (lw_at lw_m8 80 rfl) rfl
theorem q1844 : (Jvm.Cond.methodLink "WindGasModel" (475 : Nat) ({ cls := "WindGasModel", name := "holds", desc := "(I)Z" } : Jvm.MethodName)) ∈ lw_all := lw_g (lw_at lw_m8 81 rfl) rfl
theorem q1845 : (Jvm.Cond.privateMethod ({ cls := "WindGasModel", name := "holds", desc := "(I)Z" } : Jvm.MethodName)) ∈ lw_tbl := lw_at lw_m8 82 rfl
theorem q1846 : (Jvm.Cond.instanceMethod ({ cls := "WindGasModel", name := "holds", desc := "(I)Z" } : Jvm.MethodName)) ∈ lw_all := lw_g (lw_at lw_m8 83 rfl) rfl
theorem q1847 : (Jvm.Cond.code ({ cls := "WindGasModel", name := "holds", desc := "(I)Z" } : Jvm.MethodName) prog_19_method_66_code (4 : Nat) (Option.some Jvm.ClassFile.FieldType.boolean)) ∈ lw_all := lw_g (lw_at lw_m8 84 rfl) rfl
theorem q1848 : (Jvm.Cond.methodLink "WindGasModel" (235 : Nat) ({ cls := "java/lang/Math", name := "min", desc := "(II)I" } : Jvm.MethodName)) ∈ lw_all := lw_g (lw_at lw_m8 85 rfl) rfl
theorem q1849 : (Jvm.Cond.methodLink "WindGasModel" (294 : Nat) ({ cls := "WindGasModel", name := "orders", desc := "(I)V" } : Jvm.MethodName)) ∈ lw_all := lw_g (lw_at lw_m8 86 rfl) rfl
theorem q1850 : (Jvm.Cond.privateMethod ({ cls := "WindGasModel", name := "orders", desc := "(I)V" } : Jvm.MethodName)) ∈ lw_tbl := lw_at lw_m8 87 rfl
theorem q1851 : (Jvm.Cond.instanceMethod ({ cls := "WindGasModel", name := "orders", desc := "(I)V" } : Jvm.MethodName)) ∈ lw_all := lw_g (lw_at lw_m8 88 rfl) rfl
theorem q1852 : (Jvm.Cond.code ({ cls := "WindGasModel", name := "orders", desc := "(I)V" } : Jvm.MethodName) prog_19_method_21_code (5 : Nat) (Option.none : Option Jvm.ClassFile.FieldType)) ∈ lw_all := lw_g (lw_at lw_m8 89 rfl) rfl
theorem q1853 : (Jvm.Cond.methodLink "WindGasModel" (260 : Nat) ({ cls := "WindGasModel", name := "tells", desc := "(II)I" } : Jvm.MethodName)) ∈ lw_all := lw_g (lw_at lw_m8 90 rfl) rfl
theorem q1854 : (Jvm.Cond.privateMethod ({ cls := "WindGasModel", name := "tells", desc := "(II)I" } : Jvm.MethodName)) ∈ lw_tbl := lw_at lw_m8 91 rfl
theorem q1855 : (Jvm.Cond.instanceMethod ({ cls := "WindGasModel", name := "tells", desc := "(II)I" } : Jvm.MethodName)) ∈ lw_all := lw_g (lw_at lw_m8 92 rfl) rfl
theorem q1856 : (Jvm.Cond.code ({ cls := "WindGasModel", name := "tells", desc := "(II)I" } : Jvm.MethodName) prog_19_method_64_code (5 : Nat) (Option.some Jvm.ClassFile.FieldType.int)) ∈ lw_all := lw_g (lw_at lw_m8 93 rfl) rfl
theorem q1857 : (Jvm.Cond.methodLink "WindGasModel" (472 : Nat) ({ cls := "WindGasModel", name := "bare", desc := "(I)I" } : Jvm.MethodName)) ∈ lw_all := lw_g (lw_at lw_m8 94 rfl) rfl
theorem q1858 : (Jvm.Cond.static ({ cls := "WindGasModel", name := "bare", desc := "(I)I" } : Jvm.MethodName)) ∈ lw_all := lw_g (lw_at lw_m8 95 rfl) rfl
theorem q1859 : (Jvm.Cond.code ({ cls := "WindGasModel", name := "bare", desc := "(I)I" } : Jvm.MethodName) prog_19_method_63_code (1 : Nat) (Option.some Jvm.ClassFile.FieldType.int)) ∈ lw_all := lw_g (lw_at lw_m8 96 rfl) rfl
theorem q1860 : (Jvm.Cond.methodLink "WindGasModel" (298 : Nat) ({ cls := "WindGasModel", name := "turns", desc := "(III)I" } : Jvm.MethodName)) ∈ lw_all := lw_g (lw_at lw_m8 97 rfl) rfl
theorem q1861 : (Jvm.Cond.privateMethod ({ cls := "WindGasModel", name := "turns", desc := "(III)I" } : Jvm.MethodName)) ∈ lw_tbl := lw_at lw_m8 98 rfl
theorem q1862 : (Jvm.Cond.instanceMethod ({ cls := "WindGasModel", name := "turns", desc := "(III)I" } : Jvm.MethodName)) ∈ lw_all := lw_g (lw_at lw_m8 99 rfl) rfl
theorem q1863 : (Jvm.Cond.code ({ cls := "WindGasModel", name := "turns", desc := "(III)I" } : Jvm.MethodName) prog_19_method_25_code (7 : Nat) (Option.some Jvm.ClassFile.FieldType.int)) ∈ lw_all := lw_g (lw_at lw_m8 100 rfl) rfl
theorem q1864 : (Jvm.Cond.methodLink "WindGasModel" (270 : Nat) ({ cls := "WindGasModel", name := "leastOf", desc := "(II)I" } : Jvm.MethodName)) ∈ lw_all := lw_g (lw_at lw_m8 101 rfl) rfl
theorem q1865 : (Jvm.Cond.privateMethod ({ cls := "WindGasModel", name := "leastOf", desc := "(II)I" } : Jvm.MethodName)) ∈ lw_tbl := lw_at lw_m8 102 rfl
theorem q1866 : (Jvm.Cond.instanceMethod ({ cls := "WindGasModel", name := "leastOf", desc := "(II)I" } : Jvm.MethodName)) ∈ lw_all := lw_g (lw_at lw_m8 103 rfl) rfl
theorem q1867 : (Jvm.Cond.code ({ cls := "WindGasModel", name := "leastOf", desc := "(II)I" } : Jvm.MethodName) prog_19_method_22_code (3 : Nat) (Option.some Jvm.ClassFile.FieldType.int)) ∈ lw_all := lw_g (lw_at lw_m8 104 rfl) rfl
theorem q1868 : (Jvm.Cond.methodLink "WindGasModel" (263 : Nat) ({ cls := "java/lang/Math", name := "max", desc := "(II)I" } : Jvm.MethodName)) ∈ lw_all := lw_g (lw_at lw_m8 105 rfl) rfl
theorem q1869 : (Jvm.Cond.methodLink "WindGasModel" (273 : Nat) ({ cls := "WindGasModel", name := "gasOf", desc := "(II)I" } : Jvm.MethodName)) ∈ lw_all := lw_g (lw_at lw_m8 106 rfl) rfl
theorem q1870 : (Jvm.Cond.privateMethod ({ cls := "WindGasModel", name := "gasOf", desc := "(II)I" } : Jvm.MethodName)) ∈ lw_tbl := lw_at lw_m8 107 rfl
theorem q1871 : (Jvm.Cond.instanceMethod ({ cls := "WindGasModel", name := "gasOf", desc := "(II)I" } : Jvm.MethodName)) ∈ lw_all := lw_g (lw_at lw_m8 108 rfl) rfl
theorem q1872 : (Jvm.Cond.code ({ cls := "WindGasModel", name := "gasOf", desc := "(II)I" } : Jvm.MethodName) prog_19_method_23_code (4 : Nat) (Option.some Jvm.ClassFile.FieldType.int)) ∈ lw_all := lw_g (lw_at lw_m8 109 rfl) rfl
theorem q1873 : (Jvm.Cond.methodLink "WindGasModel" (301 : Nat) ({ cls := "WindGasModel", name := "stores", desc := "()V" } : Jvm.MethodName)) ∈ lw_all := lw_g (lw_at lw_m8 110 rfl) rfl
theorem q1874 : (Jvm.Cond.privateMethod ({ cls := "WindGasModel", name := "stores", desc := "()V" } : Jvm.MethodName)) ∈ lw_tbl := lw_at lw_m8 111 rfl
theorem q1875 : (Jvm.Cond.instanceMethod ({ cls := "WindGasModel", name := "stores", desc := "()V" } : Jvm.MethodName)) ∈ lw_all := lw_g (lw_at lw_m8 112 rfl) rfl
theorem q1876 : (Jvm.Cond.code ({ cls := "WindGasModel", name := "stores", desc := "()V" } : Jvm.MethodName) prog_19_method_27_code (6 : Nat) (Option.none : Option Jvm.ClassFile.FieldType)) ∈ lw_all := lw_g (lw_at lw_m8 113 rfl) rfl
theorem q1877 : (Jvm.Cond.methodLink "WindGasModel" (308 : Nat) ({ cls := "WindGasModel", name := "puts", desc := "(III)V" } : Jvm.MethodName)) ∈ lw_all := lw_g (lw_at lw_m8 114 rfl) rfl
theorem q1878 : (Jvm.Cond.privateMethod ({ cls := "WindGasModel", name := "puts", desc := "(III)V" } : Jvm.MethodName)) ∈ lw_tbl := lw_at lw_m8 115 rfl
theorem q1879 : (Jvm.Cond.instanceMethod ({ cls := "WindGasModel", name := "puts", desc := "(III)V" } : Jvm.MethodName)) ∈ lw_all := lw_g (lw_at lw_m8 116 rfl) rfl
theorem q1880 : (Jvm.Cond.code ({ cls := "WindGasModel", name := "puts", desc := "(III)V" } : Jvm.MethodName) prog_19_method_14_code (6 : Nat) (Option.none : Option Jvm.ClassFile.FieldType)) ∈ lw_all := lw_g (lw_at lw_m8 117 rfl) rfl
theorem q1881 : (Jvm.Cond.methodLink "WindGasModel" (232 : Nat) ({ cls := "WindGasModel", name := "place", desc := "(II)I" } : Jvm.MethodName)) ∈ lw_all := lw_g (lw_at lw_m8 118 rfl) rfl
theorem q1882 : (Jvm.Cond.static ({ cls := "WindGasModel", name := "place", desc := "(II)I" } : Jvm.MethodName)) ∈ lw_all := lw_g (lw_at lw_m8 119 rfl) rfl
theorem q1883 : (Jvm.Cond.code ({ cls := "WindGasModel", name := "place", desc := "(II)I" } : Jvm.MethodName) prog_19_method_13_code (2 : Nat) (Option.some Jvm.ClassFile.FieldType.int)) ∈ lw_all := lw_g (lw_at lw_m8 120 rfl) rfl
theorem q1884 : (Jvm.Cond.methodLink "WindGasModel" (304 : Nat) ({ cls := "WindGasModel", name := "tries", desc := "(II)V" } : Jvm.MethodName)) ∈ lw_all := lw_g (lw_at lw_m8 121 rfl) rfl
theorem q1885 : (Jvm.Cond.privateMethod ({ cls := "WindGasModel", name := "tries", desc := "(II)V" } : Jvm.MethodName)) ∈ lw_tbl := lw_at lw_m8 122 rfl
theorem q1886 : (Jvm.Cond.instanceMethod ({ cls := "WindGasModel", name := "tries", desc := "(II)V" } : Jvm.MethodName)) ∈ lw_all := lw_g (lw_at lw_m8 123 rfl) rfl
theorem q1887 : (Jvm.Cond.code ({ cls := "WindGasModel", name := "tries", desc := "(II)V" } : Jvm.MethodName) prog_19_method_20_code (8 : Nat) (Option.none : Option Jvm.ClassFile.FieldType)) ∈ lw_all := lw_g (lw_at lw_m8 124 rfl) rfl
theorem q1888 : (Jvm.Cond.methodLink "WindGasModel" (251 : Nat) ({ cls := "WindGasModel", name := "foulIn", desc := "(II)I" } : Jvm.MethodName)) ∈ lw_all := lw_g (lw_at lw_m8 125 rfl) rfl
theorem q1889 : (Jvm.Cond.privateMethod ({ cls := "WindGasModel", name := "foulIn", desc := "(II)I" } : Jvm.MethodName)) ∈ lw_tbl := lw_at lw_m8 126 rfl
theorem q1890 : (Jvm.Cond.instanceMethod ({ cls := "WindGasModel", name := "foulIn", desc := "(II)I" } : Jvm.MethodName)) ∈ lw_all := lw_g (lw_at lw_m8 127 rfl) rfl
theorem q1891 : (Jvm.Cond.code ({ cls := "WindGasModel", name := "foulIn", desc := "(II)I" } : Jvm.MethodName) prog_19_method_16_code (8 : Nat) (Option.some Jvm.ClassFile.FieldType.int)) ∈ lw_all := lw_g (lw_at lw_m8 128 rfl) rfl
theorem q1892 : (Jvm.Cond.methodLink "WindGasModel" (240 : Nat) ({ cls := "WindGasModel", name := "part", desc := "(III)I" } : Jvm.MethodName)) ∈ lw_all := lw_g (lw_at lw_m8 129 rfl) rfl
theorem q1893 : (Jvm.Cond.static ({ cls := "WindGasModel", name := "part", desc := "(III)I" } : Jvm.MethodName)) ∈ lw_all := lw_g (lw_at lw_m8 130 rfl) rfl
theorem q1894 : (Jvm.Cond.code ({ cls := "WindGasModel", name := "part", desc := "(III)I" } : Jvm.MethodName) prog_19_method_15_code (3 : Nat) (Option.some Jvm.ClassFile.FieldType.int)) ∈ lw_all := lw_g (lw_at lw_m8 131 rfl) rfl
theorem q1895 : (Jvm.Cond.constantLong "WindGasModel" (254 : Nat) (10000 : Int64)) ∈ lw_all := lw_g (lw_at lw_m8 132 rfl) rfl
theorem q1896 : (Jvm.Cond.methodLink "WindGasModel" (256 : Nat) ({ cls := "WindGasModel", name := "goesOut", desc := "(III)V" } : Jvm.MethodName)) ∈ lw_all := lw_g (lw_at lw_m8 133 rfl) rfl
theorem q1897 : (Jvm.Cond.privateMethod ({ cls := "WindGasModel", name := "goesOut", desc := "(III)V" } : Jvm.MethodName)) ∈ lw_tbl := lw_at lw_m8 134 rfl
theorem q1898 : (Jvm.Cond.instanceMethod ({ cls := "WindGasModel", name := "goesOut", desc := "(III)V" } : Jvm.MethodName)) ∈ lw_all := lw_g (lw_at lw_m8 135 rfl) rfl
theorem q1899 : (Jvm.Cond.code ({ cls := "WindGasModel", name := "goesOut", desc := "(III)V" } : Jvm.MethodName) prog_19_method_17_code (8 : Nat) (Option.none : Option Jvm.ClassFile.FieldType)) ∈ lw_all := lw_g (lw_at lw_m8 136 rfl) rfl
theorem q1901 : (Jvm.Cond.instanceMethod ({ cls := "WindGasModel", name := "stackOf", desc := "(II)J" } : Jvm.MethodName)) ∈ lw_all := lw_g (lw_at lw_m8 138 rfl) rfl
theorem q1902 : (Jvm.Cond.selects "WindGasModel" ({ cls := "WindGasModel", name := "stackOf", desc := "(II)J" } : Jvm.MethodName) ({ cls := "WindGasModel", name := "stackOf", desc := "(II)J" } : Jvm.MethodName)) ∈ lw_all := lw_g (lw_at lw_m8 139 rfl) rfl
theorem q1903 : (Jvm.Cond.code ({ cls := "WindGasModel", name := "stackOf", desc := "(II)J" } : Jvm.MethodName) prog_19_method_30_code (3 : Nat) (Option.some Jvm.ClassFile.FieldType.long)) ∈ lw_all := lw_g (lw_at lw_m8 140 rfl) rfl
theorem q1904 : (Jvm.Cond.methodLink "WindGasModel" (314 : Nat) ({ cls := "WindGasModel", name := "isStack", desc := "(I)Z" } : Jvm.MethodName)) ∈ lw_all := lw_g (lw_at lw_m8 141 rfl) rfl
theorem q1905 : (Jvm.Cond.privateMethod ({ cls := "WindGasModel", name := "isStack", desc := "(I)Z" } : Jvm.MethodName)) ∈ lw_tbl := lw_at lw_m8 142 rfl
theorem q1906 : (Jvm.Cond.instanceMethod ({ cls := "WindGasModel", name := "isStack", desc := "(I)Z" } : Jvm.MethodName)) ∈ lw_all := lw_g (lw_at lw_m8 143 rfl) rfl
theorem q1907 : (Jvm.Cond.code ({ cls := "WindGasModel", name := "isStack", desc := "(I)Z" } : Jvm.MethodName) prog_19_method_29_code (2 : Nat) (Option.some Jvm.ClassFile.FieldType.boolean)) ∈ lw_all := lw_g (lw_at lw_m8 144 rfl) rfl
theorem q1908 : (Jvm.Cond.constantLong "WindGasModel" (317 : Nat) (-1 : Int64)) ∈ lw_all := lw_g (lw_at lw_m8 145 rfl) rfl
theorem q1910 : (Jvm.Cond.instanceMethod ({ cls := "WindGasModel", name := "storeOf", desc := "(II)J" } : Jvm.MethodName)) ∈ lw_all := lw_g (lw_at lw_m8 147 rfl) rfl
theorem q1911 : (Jvm.Cond.selects "WindGasModel" ({ cls := "WindGasModel", name := "storeOf", desc := "(II)J" } : Jvm.MethodName) ({ cls := "WindGasModel", name := "storeOf", desc := "(II)J" } : Jvm.MethodName)) ∈ lw_all := lw_g (lw_at lw_m8 148 rfl) rfl
theorem q1912 : (Jvm.Cond.code ({ cls := "WindGasModel", name := "storeOf", desc := "(II)J" } : Jvm.MethodName) prog_19_method_31_code (3 : Nat) (Option.some Jvm.ClassFile.FieldType.long)) ∈ lw_all := lw_g (lw_at lw_m8 149 rfl) rfl
theorem q1914 : (Jvm.Cond.instanceMethod ({ cls := "WindGasModel", name := "lot", desc := "(III)I" } : Jvm.MethodName)) ∈ lw_all := lw_g (lw_at lw_m8 151 rfl) rfl
theorem q1915 : (Jvm.Cond.selects "WindGasModel" ({ cls := "WindGasModel", name := "lot", desc := "(III)I" } : Jvm.MethodName) ({ cls := "WindGasModel", name := "lot", desc := "(III)I" } : Jvm.MethodName)) ∈ lw_all := lw_g (lw_at lw_m8 152 rfl) rfl
theorem q1916 : (Jvm.Cond.code ({ cls := "WindGasModel", name := "lot", desc := "(III)I" } : Jvm.MethodName) prog_19_method_32_code (5 : Nat) (Option.some Jvm.ClassFile.FieldType.int)) ∈ lw_all := lw_g (lw_at lw_m8 153 rfl) rfl
theorem q1918 : (Jvm.Cond.instanceMethod ({ cls := "WindGasModel", name := "tripOf", desc := "(II)I" } : Jvm.MethodName)) ∈ lw_all := lw_g (lw_at lw_m8 155 rfl) rfl
theorem q1919 : (Jvm.Cond.selects "WindGasModel" ({ cls := "WindGasModel", name := "tripOf", desc := "(II)I" } : Jvm.MethodName) ({ cls := "WindGasModel", name := "tripOf", desc := "(II)I" } : Jvm.MethodName)) ∈ lw_all := lw_g (lw_at lw_m8 156 rfl) rfl
theorem q1920 : (Jvm.Cond.code ({ cls := "WindGasModel", name := "tripOf", desc := "(II)I" } : Jvm.MethodName) prog_19_method_34_code (5 : Nat) (Option.some Jvm.ClassFile.FieldType.int)) ∈ lw_all := lw_g (lw_at lw_m8 157 rfl) rfl
theorem q1921 : (Jvm.Cond.methodLink "WindGasModel" (322 : Nat) ({ cls := "WindGasModel", name := "isTrip", desc := "(I)Z" } : Jvm.MethodName)) ∈ lw_all := lw_g (lw_at lw_m8 158 rfl) rfl
theorem q1922 : (Jvm.Cond.privateMethod ({ cls := "WindGasModel", name := "isTrip", desc := "(I)Z" } : Jvm.MethodName)) ∈ lw_tbl := lw_at lw_m8 159 rfl
theorem q1923 : (Jvm.Cond.instanceMethod ({ cls := "WindGasModel", name := "isTrip", desc := "(I)Z" } : Jvm.MethodName)) ∈ lw_all := lw_g (lw_at lw_m8 160 rfl) rfl
theorem q1924 : (Jvm.Cond.code ({ cls := "WindGasModel", name := "isTrip", desc := "(I)Z" } : Jvm.MethodName) prog_19_method_19_code (2 : Nat) (Option.some Jvm.ClassFile.FieldType.boolean)) ∈ lw_all := lw_g (lw_at lw_m8 161 rfl) rfl
theorem q1925 : (Jvm.Cond.methodLink "WindGasModel" (325 : Nat) ({ cls := "WindGasModel", name := "proved", desc := "(I)I" } : Jvm.MethodName)) ∈ lw_all := lw_g (lw_at lw_m8 162 rfl) rfl
theorem q1926 : (Jvm.Cond.privateMethod ({ cls := "WindGasModel", name := "proved", desc := "(I)I" } : Jvm.MethodName)) ∈ lw_tbl := lw_at lw_m8 163 rfl
theorem q1927 : (Jvm.Cond.instanceMethod ({ cls := "WindGasModel", name := "proved", desc := "(I)I" } : Jvm.MethodName)) ∈ lw_all := lw_g (lw_at lw_m8 164 rfl) rfl
theorem q1928 : (Jvm.Cond.code ({ cls := "WindGasModel", name := "proved", desc := "(I)I" } : Jvm.MethodName) prog_19_method_33_code (4 : Nat) (Option.some Jvm.ClassFile.FieldType.int)) ∈ lw_all := lw_g (lw_at lw_m8 165 rfl) rfl
theorem q1929 : (Jvm.Cond.methodLink "WindGasModel" (319 : Nat) ({ cls := "WindGasModel", name := "isGreen", desc := "(I)Z" } : Jvm.MethodName)) ∈ lw_all := lw_g (lw_at lw_m8 166 rfl) rfl
theorem q1930 : (Jvm.Cond.privateMethod ({ cls := "WindGasModel", name := "isGreen", desc := "(I)Z" } : Jvm.MethodName)) ∈ lw_tbl := lw_at lw_m8 167 rfl
theorem q1931 : (Jvm.Cond.instanceMethod ({ cls := "WindGasModel", name := "isGreen", desc := "(I)Z" } : Jvm.MethodName)) ∈ lw_all := lw_g (lw_at lw_m8 168 rfl) rfl
theorem q1932 : (Jvm.Cond.code ({ cls := "WindGasModel", name := "isGreen", desc := "(I)Z" } : Jvm.MethodName) prog_19_method_37_code (2 : Nat) (Option.some Jvm.ClassFile.FieldType.boolean)) ∈ lw_all := lw_g (lw_at lw_m8 169 rfl) rfl
theorem q1933 : (Jvm.Cond.methodLink "WindGasModel" (328 : Nat) ({ cls := "WindGasModel", name := "isThrough", desc := "(I)Z" } : Jvm.MethodName)) ∈ lw_all := lw_g (lw_at lw_m8 170 rfl) rfl
theorem q1934 : (Jvm.Cond.privateMethod ({ cls := "WindGasModel", name := "isThrough", desc := "(I)Z" } : Jvm.MethodName)) ∈ lw_tbl := lw_at lw_m8 171 rfl
theorem q1935 : (Jvm.Cond.instanceMethod ({ cls := "WindGasModel", name := "isThrough", desc := "(I)Z" } : Jvm.MethodName)) ∈ lw_all := lw_g (lw_at lw_m8 172 rfl) rfl
theorem q1936 : (Jvm.Cond.code ({ cls := "WindGasModel", name := "isThrough", desc := "(I)Z" } : Jvm.MethodName) prog_19_method_36_code (2 : Nat) (Option.some Jvm.ClassFile.FieldType.boolean)) ∈ lw_all := lw_g (lw_at lw_m8 173 rfl) rfl
theorem q1938 : (Jvm.Cond.instanceMethod ({ cls := "WindGasModel", name := "drank", desc := "(II)I" } : Jvm.MethodName)) ∈ lw_all := lw_g (lw_at lw_m8 175 rfl) rfl
theorem q1939 : (Jvm.Cond.selects "WindGasModel" ({ cls := "WindGasModel", name := "drank", desc := "(II)I" } : Jvm.MethodName) ({ cls := "WindGasModel", name := "drank", desc := "(II)I" } : Jvm.MethodName)) ∈ lw_all := lw_g (lw_at lw_m8 176 rfl) rfl
theorem q1940 : (Jvm.Cond.code ({ cls := "WindGasModel", name := "drank", desc := "(II)I" } : Jvm.MethodName) prog_19_method_35_code (3 : Nat) (Option.some Jvm.ClassFile.FieldType.int)) ∈ lw_all := lw_g (lw_at lw_m8 177 rfl) rfl
theorem q1942 : (Jvm.Cond.instanceMethod ({ cls := "WindGasModel", name := "green", desc := "(I)I" } : Jvm.MethodName)) ∈ lw_all := lw_g (lw_at lw_m8 179 rfl) rfl
theorem q1943 : (Jvm.Cond.selects "WindGasModel" ({ cls := "WindGasModel", name := "green", desc := "(I)I" } : Jvm.MethodName) ({ cls := "WindGasModel", name := "green", desc := "(I)I" } : Jvm.MethodName)) ∈ lw_all := lw_g (lw_at lw_m8 180 rfl) rfl
theorem q1944 : (Jvm.Cond.code ({ cls := "WindGasModel", name := "green", desc := "(I)I" } : Jvm.MethodName) prog_19_method_38_code (2 : Nat) (Option.some Jvm.ClassFile.FieldType.int)) ∈ lw_all := lw_g (lw_at lw_m8 181 rfl) rfl
theorem q1946 : (Jvm.Cond.instanceMethod ({ cls := "WindGasModel", name := "paper", desc := "(III)I" } : Jvm.MethodName)) ∈ lw_all := lw_g (lw_at lw_m8 183 rfl) rfl
theorem q1947 : (Jvm.Cond.selects "WindGasModel" ({ cls := "WindGasModel", name := "paper", desc := "(III)I" } : Jvm.MethodName) ({ cls := "WindGasModel", name := "paper", desc := "(III)I" } : Jvm.MethodName)) ∈ lw_all := lw_g (lw_at lw_m8 184 rfl) rfl
theorem q1948 : (Jvm.Cond.code ({ cls := "WindGasModel", name := "paper", desc := "(III)I" } : Jvm.MethodName) prog_19_method_39_code (4 : Nat) (Option.some Jvm.ClassFile.FieldType.int)) ∈ lw_all := lw_g (lw_at lw_m8 185 rfl) rfl
theorem q1950 : (Jvm.Cond.instanceMethod ({ cls := "WindGasModel", name := "paperOf", desc := "(II)I" } : Jvm.MethodName)) ∈ lw_all := lw_g (lw_at lw_m8 187 rfl) rfl
theorem q1951 : (Jvm.Cond.selects "WindGasModel" ({ cls := "WindGasModel", name := "paperOf", desc := "(II)I" } : Jvm.MethodName) ({ cls := "WindGasModel", name := "paperOf", desc := "(II)I" } : Jvm.MethodName)) ∈ lw_all := lw_g (lw_at lw_m8 188 rfl) rfl
theorem q1952 : (Jvm.Cond.code ({ cls := "WindGasModel", name := "paperOf", desc := "(II)I" } : Jvm.MethodName) prog_19_method_41_code (3 : Nat) (Option.some Jvm.ClassFile.FieldType.int)) ∈ lw_all := lw_g (lw_at lw_m8 189 rfl) rfl
theorem q1953 : (Jvm.Cond.methodLink "WindGasModel" (334 : Nat) ({ cls := "WindGasModel", name := "isValid", desc := "(I)Z" } : Jvm.MethodName)) ∈ lw_all := lw_g (lw_at lw_m8 190 rfl) rfl
theorem q1954 : (Jvm.Cond.privateMethod ({ cls := "WindGasModel", name := "isValid", desc := "(I)Z" } : Jvm.MethodName)) ∈ lw_tbl := lw_at lw_m8 191 rfl
theorem q1955 : (Jvm.Cond.instanceMethod ({ cls := "WindGasModel", name := "isValid", desc := "(I)Z" } : Jvm.MethodName)) ∈ lw_all := lw_g (lw_at lw_m8 192 rfl) rfl
theorem q1956 : (Jvm.Cond.code ({ cls := "WindGasModel", name := "isValid", desc := "(I)Z" } : Jvm.MethodName) prog_19_method_40_code (7 : Nat) (Option.some Jvm.ClassFile.FieldType.boolean)) ∈ lw_all := lw_g (lw_at lw_m8 193 rfl) rfl
theorem q1958 : (Jvm.Cond.instanceMethod ({ cls := "WindGasModel", name := "meter", desc := "(III)I" } : Jvm.MethodName)) ∈ lw_all := lw_g (lw_at lw_m8 195 rfl) rfl
theorem q1959 : (Jvm.Cond.selects "WindGasModel" ({ cls := "WindGasModel", name := "meter", desc := "(III)I" } : Jvm.MethodName) ({ cls := "WindGasModel", name := "meter", desc := "(III)I" } : Jvm.MethodName)) ∈ lw_all := lw_g (lw_at lw_m8 196 rfl) rfl
theorem q1960 : (Jvm.Cond.code ({ cls := "WindGasModel", name := "meter", desc := "(III)I" } : Jvm.MethodName) prog_19_method_42_code (6 : Nat) (Option.some Jvm.ClassFile.FieldType.int)) ∈ lw_all := lw_g (lw_at lw_m8 197 rfl) rfl
theorem q1961 : (Jvm.Cond.constantLong "WindGasModel" (337 : Nat) (100 : Int64)) ∈ lw_all := lw_g (lw_at lw_m8 198 rfl) rfl
theorem q1963 : (Jvm.Cond.instanceMethod ({ cls := "WindGasModel", name := "feed", desc := "(IIIII)I" } : Jvm.MethodName)) ∈ lw_all := lw_g (lw_at lw_m8 200 rfl) rfl
theorem q1964 : (Jvm.Cond.selects "WindGasModel" ({ cls := "WindGasModel", name := "feed", desc := "(IIIII)I" } : Jvm.MethodName) ({ cls := "WindGasModel", name := "feed", desc := "(IIIII)I" } : Jvm.MethodName)) ∈ lw_all := lw_g (lw_at lw_m8 201 rfl) rfl
theorem q1965 : (Jvm.Cond.code ({ cls := "WindGasModel", name := "feed", desc := "(IIIII)I" } : Jvm.MethodName) prog_19_method_43_code (6 : Nat) (Option.some Jvm.ClassFile.FieldType.int)) ∈ lw_all := lw_g (lw_at lw_m8 202 rfl) rfl
theorem q1966 : (Jvm.Cond.methodLink "WindGasModel" (342 : Nat) ({ cls := "WindGasModel", name := "four", desc := "(I)V" } : Jvm.MethodName)) ∈ lw_all := lw_g (lw_at lw_m8 203 rfl) rfl
theorem q1967 : (Jvm.Cond.privateMethod ({ cls := "WindGasModel", name := "four", desc := "(I)V" } : Jvm.MethodName)) ∈ lw_tbl := lw_at lw_m8 204 rfl
theorem q1968 : (Jvm.Cond.instanceMethod ({ cls := "WindGasModel", name := "four", desc := "(I)V" } : Jvm.MethodName)) ∈ lw_all := lw_g (lw_at lw_m8 205 rfl) rfl
theorem q1969 : (Jvm.Cond.code ({ cls := "WindGasModel", name := "four", desc := "(I)V" } : Jvm.MethodName) prog_19_method_44_code (3 : Nat) (Option.none : Option Jvm.ClassFile.FieldType)) ∈ lw_all := lw_g (lw_at lw_m8 206 rfl) rfl
theorem q1971 : (Jvm.Cond.instanceMethod ({ cls := "WindGasModel", name := "rules", desc := "(I)I" } : Jvm.MethodName)) ∈ lw_all := lw_g (lw_at lw_m8 208 rfl) rfl
theorem q1972 : (Jvm.Cond.selects "WindGasModel" ({ cls := "WindGasModel", name := "rules", desc := "(I)I" } : Jvm.MethodName) ({ cls := "WindGasModel", name := "rules", desc := "(I)I" } : Jvm.MethodName)) ∈ lw_all := lw_g (lw_at lw_m8 209 rfl) rfl
theorem q1973 : (Jvm.Cond.code ({ cls := "WindGasModel", name := "rules", desc := "(I)I" } : Jvm.MethodName) prog_19_method_60_code (4 : Nat) (Option.some Jvm.ClassFile.FieldType.int)) ∈ lw_all := lw_g (lw_at lw_m8 210 rfl) rfl
theorem q1974 : (Jvm.Cond.methodLink "WindGasModel" (351 : Nat) ({ cls := "WindGasModel", name := "blanks", desc := "()V" } : Jvm.MethodName)) ∈ lw_all := lw_g (lw_at lw_m8 211 rfl) rfl
theorem q1975 : (Jvm.Cond.privateMethod ({ cls := "WindGasModel", name := "blanks", desc := "()V" } : Jvm.MethodName)) ∈ lw_tbl := lw_at lw_m8 212 rfl
theorem q1976 : (Jvm.Cond.instanceMethod ({ cls := "WindGasModel", name := "blanks", desc := "()V" } : Jvm.MethodName)) ∈ lw_all := lw_g (lw_at lw_m8 213 rfl) rfl
theorem q1977 : (Jvm.Cond.code ({ cls := "WindGasModel", name := "blanks", desc := "()V" } : Jvm.MethodName) prog_19_method_45_code (1 : Nat) (Option.none : Option Jvm.ClassFile.FieldType)) ∈ lw_all := lw_g (lw_at lw_m8 214 rfl) rfl
theorem q1978 : (Jvm.Cond.methodLink "WindGasModel" (469 : Nat) ({ cls := "WindGasModel", name := "statement", desc := "(I)Z" } : Jvm.MethodName)) ∈ lw_all := lw_g (lw_at lw_m8 215 rfl) rfl
theorem q1979 : (Jvm.Cond.privateMethod ({ cls := "WindGasModel", name := "statement", desc := "(I)Z" } : Jvm.MethodName)) ∈ lw_tbl := lw_at lw_m8 216 rfl
theorem q1980 : (Jvm.Cond.instanceMethod ({ cls := "WindGasModel", name := "statement", desc := "(I)Z" } : Jvm.MethodName)) ∈ lw_all := lw_g (lw_at lw_m8 217 rfl) rfl
theorem q1981 : (Jvm.Cond.code ({ cls := "WindGasModel", name := "statement", desc := "(I)Z" } : Jvm.MethodName) prog_19_method_59_code (3 : Nat) (Option.some Jvm.ClassFile.FieldType.boolean)) ∈ lw_all := lw_g (lw_at lw_m8 218 rfl) rfl
theorem q1982 : (Jvm.Cond.constantLong "WindGasModel" (434 : Nat) (123649732998265 : Int64)) ∈ lw_all := lw_g (lw_at lw_m8 219 rfl) rfl
theorem q1983 : (Jvm.Cond.methodLink "WindGasModel" (375 : Nat) ({ cls := "WindGasModel", name := "takes", desc := "(J)Z" } : Jvm.MethodName)) ∈ lw_all := lw_g (lw_at lw_m8 220 rfl) rfl
theorem q1984 : (Jvm.Cond.privateMethod ({ cls := "WindGasModel", name := "takes", desc := "(J)Z" } : Jvm.MethodName)) ∈ lw_tbl := lw_at lw_m8 221 rfl
theorem q1985 : (Jvm.Cond.instanceMethod ({ cls := "WindGasModel", name := "takes", desc := "(J)Z" } : Jvm.MethodName)) ∈ lw_all := lw_g (lw_at lw_m8 222 rfl) rfl
theorem q1986 : (Jvm.Cond.code ({ cls := "WindGasModel", name := "takes", desc := "(J)Z" } : Jvm.MethodName) prog_19_method_47_code (3 : Nat) (Option.some Jvm.ClassFile.FieldType.boolean)) ∈ lw_all := lw_g (lw_at lw_m8 223 rfl) rfl
theorem q1987 : (Jvm.Cond.methodLink "WindGasModel" (357 : Nat) ({ cls := "WindGasModel", name := "word", desc := "()J" } : Jvm.MethodName)) ∈ lw_all := lw_g (lw_at lw_m8 224 rfl) rfl
theorem q1988 : (Jvm.Cond.privateMethod ({ cls := "WindGasModel", name := "word", desc := "()J" } : Jvm.MethodName)) ∈ lw_tbl := lw_at lw_m8 225 rfl
theorem q1989 : (Jvm.Cond.instanceMethod ({ cls := "WindGasModel", name := "word", desc := "()J" } : Jvm.MethodName)) ∈ lw_all := lw_g (lw_at lw_m8 226 rfl) rfl
theorem q1990 : (Jvm.Cond.code ({ cls := "WindGasModel", name := "word", desc := "()J" } : Jvm.MethodName) prog_19_method_46_code (3 : Nat) (Option.some Jvm.ClassFile.FieldType.long)) ∈ lw_all := lw_g (lw_at lw_m8 227 rfl) rfl
theorem q1991 : (Jvm.Cond.constant "WindGasModel" (415 : Nat) (999999 : Int32)) ∈ lw_all := lw_g (lw_at lw_m8 228 rfl) rfl
theorem q1992 : (Jvm.Cond.methodLink "WindGasModel" (436 : Nat) ({ cls := "WindGasModel", name := "plain", desc := "(IIII)Z" } : Jvm.MethodName)) ∈ lw_all := lw_g (lw_at lw_m8 229 rfl) rfl
theorem q1993 : (Jvm.Cond.privateMethod ({ cls := "WindGasModel", name := "plain", desc := "(IIII)Z" } : Jvm.MethodName)) ∈ lw_tbl := lw_at lw_m8 230 rfl
theorem q1994 : (Jvm.Cond.instanceMethod ({ cls := "WindGasModel", name := "plain", desc := "(IIII)Z" } : Jvm.MethodName)) ∈ lw_all := lw_g (lw_at lw_m8 231 rfl) rfl
theorem q1995 : (Jvm.Cond.code ({ cls := "WindGasModel", name := "plain", desc := "(IIII)Z" } : Jvm.MethodName) prog_19_method_55_code (5 : Nat) (Option.some Jvm.ClassFile.FieldType.boolean)) ∈ lw_all := lw_g (lw_at lw_m8 232 rfl) rfl
theorem q1996 : (Jvm.Cond.methodLink "WindGasModel" (416 : Nat) ({ cls := "WindGasModel", name := "takesNumber", desc := "(II)Z" } : Jvm.MethodName)) ∈ lw_all := lw_g (lw_at lw_m8 233 rfl) rfl
theorem q1997 : (Jvm.Cond.privateMethod ({ cls := "WindGasModel", name := "takesNumber", desc := "(II)Z" } : Jvm.MethodName)) ∈ lw_tbl := lw_at lw_m8 234 rfl
theorem q1998 : (Jvm.Cond.instanceMethod ({ cls := "WindGasModel", name := "takesNumber", desc := "(II)Z" } : Jvm.MethodName)) ∈ lw_all := lw_g (lw_at lw_m8 235 rfl) rfl
theorem q1999 : (Jvm.Cond.code ({ cls := "WindGasModel", name := "takesNumber", desc := "(II)Z" } : Jvm.MethodName) prog_19_method_49_code (4 : Nat) (Option.some Jvm.ClassFile.FieldType.boolean)) ∈ lw_all := lw_g (lw_at lw_m8 236 rfl) rfl
theorem q2000 : (Jvm.Cond.constantLong "WindGasModel" (440 : Nat) (495874699885 : Int64)) ∈ lw_all := lw_g (lw_at lw_m8 237 rfl) rfl
theorem q2001 : (Jvm.Cond.constantLong "WindGasModel" (442 : Nat) (465557353332 : Int64)) ∈ lw_all := lw_g (lw_at lw_m8 238 rfl) rfl
theorem q2002 : (Jvm.Cond.constantLong "WindGasModel" (444 : Nat) (126943688291443 : Int64)) ∈ lw_all := lw_g (lw_at lw_m8 239 rfl) rfl
theorem q2003 : (Jvm.Cond.constantLong "WindGasModel" (446 : Nat) (426835602533 : Int64)) ∈ lw_all := lw_g (lw_at lw_m9 0 rfl) rfl
theorem q2004 : (Jvm.Cond.constantLong "WindGasModel" (448 : Nat) (439855772532 : Int64)) ∈ lw_all := lw_g (lw_at lw_m9 1 rfl) rfl
theorem q2005 : (Jvm.Cond.constantLong "WindGasModel" (450 : Nat) (2003792494 : Int64)) ∈ lw_all := lw_g (lw_at lw_m9 2 rfl) rfl
theorem q2006 : (Jvm.Cond.constantLong "WindGasModel" (452 : Nat) (440005915496 : Int64)) ∈ lw_all := lw_g (lw_at lw_m9 3 rfl) rfl
theorem q2007 : (Jvm.Cond.constantLong "WindGasModel" (454 : Nat) (444300879214 : Int64)) ∈ lw_all := lw_g (lw_at lw_m9 4 rfl) rfl
theorem q2008 : (Jvm.Cond.methodLink "WindGasModel" (456 : Nat) ({ cls := "WindGasModel", name := "condition", desc := "(II)Z" } : Jvm.MethodName)) ∈ lw_all := lw_g (lw_at lw_m9 5 rfl) rfl
theorem q2009 : (Jvm.Cond.privateMethod ({ cls := "WindGasModel", name := "condition", desc := "(II)Z" } : Jvm.MethodName)) ∈ lw_tbl := lw_at lw_m9 6 rfl
theorem q2010 : (Jvm.Cond.instanceMethod ({ cls := "WindGasModel", name := "condition", desc := "(II)Z" } : Jvm.MethodName)) ∈ lw_all := lw_g (lw_at lw_m9 7 rfl) rfl
theorem q2011 : (Jvm.Cond.code ({ cls := "WindGasModel", name := "condition", desc := "(II)Z" } : Jvm.MethodName) prog_19_method_56_code (3 : Nat) (Option.some Jvm.ClassFile.FieldType.boolean)) ∈ lw_all := lw_g (lw_at lw_m9 8 rfl) rfl
theorem q2012 : (Jvm.Cond.constantLong "WindGasModel" (419 : Nat) (26982 : Int64)) ∈ lw_all := lw_g (lw_at lw_m9 9 rfl) rfl
theorem q2013 : (Jvm.Cond.methodLink "WindGasModel" (405 : Nat) ({ cls := "WindGasModel", name := "any", desc := "()I" } : Jvm.MethodName)) ∈ lw_all := lw_g (lw_at lw_m9 10 rfl) rfl
theorem q2014 : (Jvm.Cond.privateMethod ({ cls := "WindGasModel", name := "any", desc := "()I" } : Jvm.MethodName)) ∈ lw_tbl := lw_at lw_m9 11 rfl
theorem q2015 : (Jvm.Cond.instanceMethod ({ cls := "WindGasModel", name := "any", desc := "()I" } : Jvm.MethodName)) ∈ lw_all := lw_g (lw_at lw_m9 12 rfl) rfl
theorem q2016 : (Jvm.Cond.code ({ cls := "WindGasModel", name := "any", desc := "()I" } : Jvm.MethodName) prog_19_method_51_code (4 : Nat) (Option.some Jvm.ClassFile.FieldType.int)) ∈ lw_all := lw_g (lw_at lw_m9 13 rfl) rfl
theorem q2017 : (Jvm.Cond.methodLink "WindGasModel" (367 : Nat) ({ cls := "WindGasModel", name := "node", desc := "(I)I" } : Jvm.MethodName)) ∈ lw_all := lw_g (lw_at lw_m9 14 rfl) rfl
theorem q2018 : (Jvm.Cond.privateMethod ({ cls := "WindGasModel", name := "node", desc := "(I)I" } : Jvm.MethodName)) ∈ lw_tbl := lw_at lw_m9 15 rfl
theorem q2019 : (Jvm.Cond.instanceMethod ({ cls := "WindGasModel", name := "node", desc := "(I)I" } : Jvm.MethodName)) ∈ lw_all := lw_g (lw_at lw_m9 16 rfl) rfl
theorem q2020 : (Jvm.Cond.code ({ cls := "WindGasModel", name := "node", desc := "(I)I" } : Jvm.MethodName) prog_19_method_50_code (2 : Nat) (Option.some Jvm.ClassFile.FieldType.int)) ∈ lw_all := lw_g (lw_at lw_m9 17 rfl) rfl
theorem q2021 : (Jvm.Cond.methodLink "WindGasModel" (370 : Nat) ({ cls := "WindGasModel", name := "all", desc := "()I" } : Jvm.MethodName)) ∈ lw_all := lw_g (lw_at lw_m9 18 rfl) rfl
theorem q2022 : (Jvm.Cond.privateMethod ({ cls := "WindGasModel", name := "all", desc := "()I" } : Jvm.MethodName)) ∈ lw_tbl := lw_at lw_m9 19 rfl
theorem q2023 : (Jvm.Cond.instanceMethod ({ cls := "WindGasModel", name := "all", desc := "()I" } : Jvm.MethodName)) ∈ lw_all := lw_g (lw_at lw_m9 20 rfl) rfl
theorem q2024 : (Jvm.Cond.code ({ cls := "WindGasModel", name := "all", desc := "()I" } : Jvm.MethodName) prog_19_method_52_code (4 : Nat) (Option.some Jvm.ClassFile.FieldType.int)) ∈ lw_all := lw_g (lw_at lw_m9 21 rfl) rfl
theorem q2025 : (Jvm.Cond.methodLink "WindGasModel" (379 : Nat) ({ cls := "WindGasModel", name := "single", desc := "()I" } : Jvm.MethodName)) ∈ lw_all := lw_g (lw_at lw_m9 22 rfl) rfl
theorem q2026 : (Jvm.Cond.privateMethod ({ cls := "WindGasModel", name := "single", desc := "()I" } : Jvm.MethodName)) ∈ lw_tbl := lw_at lw_m9 23 rfl
theorem q2027 : (Jvm.Cond.instanceMethod ({ cls := "WindGasModel", name := "single", desc := "()I" } : Jvm.MethodName)) ∈ lw_all := lw_g (lw_at lw_m9 24 rfl) rfl
theorem q2028 : (Jvm.Cond.code ({ cls := "WindGasModel", name := "single", desc := "()I" } : Jvm.MethodName) prog_19_method_54_code (3 : Nat) (Option.some Jvm.ClassFile.FieldType.int)) ∈ lw_all := lw_g (lw_at lw_m9 25 rfl) rfl
theorem q2029 : (Jvm.Cond.constantLong "WindGasModel" (400 : Nat) (7237492 : Int64)) ∈ lw_all := lw_g (lw_at lw_m9 26 rfl) rfl
theorem q2030 : (Jvm.Cond.methodLink "WindGasModel" (408 : Nat) ({ cls := "WindGasModel", name := "takesSign", desc := "(I)Z" } : Jvm.MethodName)) ∈ lw_all := lw_g (lw_at lw_m9 27 rfl) rfl
theorem q2031 : (Jvm.Cond.privateMethod ({ cls := "WindGasModel", name := "takesSign", desc := "(I)Z" } : Jvm.MethodName)) ∈ lw_tbl := lw_at lw_m9 28 rfl
theorem q2032 : (Jvm.Cond.instanceMethod ({ cls := "WindGasModel", name := "takesSign", desc := "(I)Z" } : Jvm.MethodName)) ∈ lw_all := lw_g (lw_at lw_m9 29 rfl) rfl
theorem q2033 : (Jvm.Cond.code ({ cls := "WindGasModel", name := "takesSign", desc := "(I)Z" } : Jvm.MethodName) prog_19_method_48_code (2 : Nat) (Option.some Jvm.ClassFile.FieldType.boolean)) ∈ lw_all := lw_g (lw_at lw_m9 30 rfl) rfl
theorem q2034 : (Jvm.Cond.methodLink "WindGasModel" (411 : Nat) ({ cls := "WindGasModel", name := "asked", desc := "(J)I" } : Jvm.MethodName)) ∈ lw_all := lw_g (lw_at lw_m9 31 rfl) rfl
theorem q2035 : (Jvm.Cond.static ({ cls := "WindGasModel", name := "asked", desc := "(J)I" } : Jvm.MethodName)) ∈ lw_all := lw_g (lw_at lw_m9 32 rfl) rfl
theorem q2036 : (Jvm.Cond.code ({ cls := "WindGasModel", name := "asked", desc := "(J)I" } : Jvm.MethodName) prog_19_method_53_code (2 : Nat) (Option.some Jvm.ClassFile.FieldType.int)) ∈ lw_all := lw_g (lw_at lw_m9 33 rfl) rfl
theorem q2037 : (Jvm.Cond.constantLong "WindGasModel" (384 : Nat) (2003398244 : Int64)) ∈ lw_all := lw_g (lw_at lw_m9 34 rfl) rfl
theorem q2038 : (Jvm.Cond.constantLong "WindGasModel" (386 : Nat) (482955846501 : Int64)) ∈ lw_all := lw_g (lw_at lw_m9 35 rfl) rfl
theorem q2039 : (Jvm.Cond.constantLong "WindGasModel" (388 : Nat) (1918986606 : Int64)) ∈ lw_all := lw_g (lw_at lw_m9 36 rfl) rfl
theorem q2040 : (Jvm.Cond.constantLong "WindGasModel" (390 : Nat) (1752135026 : Int64)) ∈ lw_all := lw_g (lw_at lw_m9 37 rfl) rfl
theorem q2041 : (Jvm.Cond.constantLong "WindGasModel" (392 : Nat) (6578553 : Int64)) ∈ lw_all := lw_g (lw_at lw_m9 38 rfl) rfl
theorem q2042 : (Jvm.Cond.constantLong "WindGasModel" (394 : Nat) (126943923168612 : Int64)) ∈ lw_all := lw_g (lw_at lw_m9 39 rfl) rfl
theorem q2043 : (Jvm.Cond.constantLong "WindGasModel" (396 : Nat) (512736126322 : Int64)) ∈ lw_all := lw_g (lw_at lw_m9 40 rfl) rfl
theorem q2044 : (Jvm.Cond.constantLong "WindGasModel" (398 : Nat) (32217264504270439 : Int64)) ∈ lw_all := lw_g (lw_at lw_m9 41 rfl) rfl
theorem q2045 : (Jvm.Cond.constantLong "WindGasModel" (382 : Nat) (6385252 : Int64)) ∈ lw_all := lw_g (lw_at lw_m9 42 rfl) rfl
theorem q2046 : (Jvm.Cond.constantLong "WindGasModel" (373 : Nat) (28530 : Int64)) ∈ lw_all := lw_g (lw_at lw_m9 43 rfl) rfl
theorem q2047 : (Jvm.Cond.constantLong "WindGasModel" (459 : Nat) (1936026732 : Int64)) ∈ lw_all := lw_g (lw_at lw_m9 44 rfl) rfl
theorem q2048 : (Jvm.Cond.constantLong "WindGasModel" (461 : Nat) (418497262196 : Int64)) ∈ lw_all := lw_g (lw_at lw_m9 45 rfl) rfl
theorem q2049 : (Jvm.Cond.methodLink "WindGasModel" (463 : Nat) ({ cls := "WindGasModel", name := "kinds", desc := "(I)Z" } : Jvm.MethodName)) ∈ lw_all := lw_g (lw_at lw_m9 46 rfl) rfl
theorem q2050 : (Jvm.Cond.privateMethod ({ cls := "WindGasModel", name := "kinds", desc := "(I)Z" } : Jvm.MethodName)) ∈ lw_tbl := lw_at lw_m9 47 rfl
theorem q2051 : (Jvm.Cond.instanceMethod ({ cls := "WindGasModel", name := "kinds", desc := "(I)Z" } : Jvm.MethodName)) ∈ lw_all := lw_g (lw_at lw_m9 48 rfl) rfl
theorem q2052 : (Jvm.Cond.code ({ cls := "WindGasModel", name := "kinds", desc := "(I)Z" } : Jvm.MethodName) prog_19_method_58_code (2 : Nat) (Option.some Jvm.ClassFile.FieldType.boolean)) ∈ lw_all := lw_g (lw_at lw_m9 49 rfl) rfl
theorem q2053 : (Jvm.Cond.methodLink "WindGasModel" (431 : Nat) ({ cls := "WindGasModel", name := "kind", desc := "()I" } : Jvm.MethodName)) ∈ lw_all := lw_g (lw_at lw_m9 50 rfl) rfl
theorem q2054 : (Jvm.Cond.privateMethod ({ cls := "WindGasModel", name := "kind", desc := "()I" } : Jvm.MethodName)) ∈ lw_tbl := lw_at lw_m9 51 rfl
theorem q2055 : (Jvm.Cond.instanceMethod ({ cls := "WindGasModel", name := "kind", desc := "()I" } : Jvm.MethodName)) ∈ lw_all := lw_g (lw_at lw_m9 52 rfl) rfl
theorem q2056 : (Jvm.Cond.code ({ cls := "WindGasModel", name := "kind", desc := "()I" } : Jvm.MethodName) prog_19_method_57_code (1 : Nat) (Option.some Jvm.ClassFile.FieldType.int)) ∈ lw_all := lw_g (lw_at lw_m9 53 rfl) rfl
theorem q2057 : (Jvm.Cond.constantLong "WindGasModel" (421 : Nat) (495873778539 : Int64)) ∈ lw_all := lw_g (lw_at lw_m9 54 rfl) rfl
theorem q2058 : (Jvm.Cond.constantLong "WindGasModel" (423 : Nat) (109270249337454 : Int64)) ∈ lw_all := lw_g (lw_at lw_m9 55 rfl) rfl
theorem q2059 : (Jvm.Cond.constantLong "WindGasModel" (425 : Nat) (448546567013 : Int64)) ∈ lw_all := lw_g (lw_at lw_m9 56 rfl) rfl
theorem q2060 : (Jvm.Cond.constantLong "WindGasModel" (427 : Nat) (1903518073 : Int64)) ∈ lw_all := lw_g (lw_at lw_m9 57 rfl) rfl
theorem q2061 : (Jvm.Cond.constantLong "WindGasModel" (429 : Nat) (431198596980 : Int64)) ∈ lw_all := lw_g (lw_at lw_m9 58 rfl) rfl
theorem q2063 : (Jvm.Cond.instanceMethod ({ cls := "WindGasModel", name := "fault", desc := "()I" } : Jvm.MethodName)) ∈ lw_all := lw_g (lw_at lw_m9 60 rfl) rfl
theorem q2064 : (Jvm.Cond.selects "WindGasModel" ({ cls := "WindGasModel", name := "fault", desc := "()I" } : Jvm.MethodName) ({ cls := "WindGasModel", name := "fault", desc := "()I" } : Jvm.MethodName)) ∈ lw_all := lw_g (lw_at lw_m9 61 rfl) rfl
theorem q2065 : (Jvm.Cond.code ({ cls := "WindGasModel", name := "fault", desc := "()I" } : Jvm.MethodName) prog_19_method_61_code (1 : Nat) (Option.some Jvm.ClassFile.FieldType.int)) ∈ lw_all := lw_g (lw_at lw_m9 62 rfl) rfl
theorem q2067 : (Jvm.Cond.instanceMethod ({ cls := "WindGasModel", name := "law", desc := "(II)I" } : Jvm.MethodName)) ∈ lw_all := lw_g (lw_at lw_m9 64 rfl) rfl
theorem q2068 : (Jvm.Cond.selects "WindGasModel" ({ cls := "WindGasModel", name := "law", desc := "(II)I" } : Jvm.MethodName) ({ cls := "WindGasModel", name := "law", desc := "(II)I" } : Jvm.MethodName)) ∈ lw_all := lw_g (lw_at lw_m9 65 rfl) rfl
theorem q2069 : (Jvm.Cond.code ({ cls := "WindGasModel", name := "law", desc := "(II)I" } : Jvm.MethodName) prog_19_method_67_code (4 : Nat) (Option.some Jvm.ClassFile.FieldType.int)) ∈ lw_all := lw_g (lw_at lw_m9 66 rfl) rfl
theorem q2071 : (Jvm.Cond.instanceMethod ({ cls := "WindGasModel", name := "place", desc := "(III)I" } : Jvm.MethodName)) ∈ lw_all := lw_g (lw_at lw_m9 68 rfl) rfl
theorem q2072 : (Jvm.Cond.selects "WindGasModel" ({ cls := "WindGasModel", name := "place", desc := "(III)I" } : Jvm.MethodName) ({ cls := "WindGasModel", name := "place", desc := "(III)I" } : Jvm.MethodName)) ∈ lw_all := lw_g (lw_at lw_m9 69 rfl) rfl
theorem q2073 : (Jvm.Cond.code ({ cls := "WindGasModel", name := "place", desc := "(III)I" } : Jvm.MethodName) prog_19_method_68_code (4 : Nat) (Option.some Jvm.ClassFile.FieldType.int)) ∈ lw_all := lw_g (lw_at lw_m9 70 rfl) rfl
theorem q2075 : (Jvm.Cond.instanceMethod ({ cls := "WindGasModel", name := "apart", desc := "(I)I" } : Jvm.MethodName)) ∈ lw_all := lw_g (lw_at lw_m9 72 rfl) rfl
theorem q2076 : (Jvm.Cond.selects "WindGasModel" ({ cls := "WindGasModel", name := "apart", desc := "(I)I" } : Jvm.MethodName) ({ cls := "WindGasModel", name := "apart", desc := "(I)I" } : Jvm.MethodName)) ∈ lw_all := lw_g (lw_at lw_m9 73 rfl) rfl
theorem q2077 : (Jvm.Cond.code ({ cls := "WindGasModel", name := "apart", desc := "(I)I" } : Jvm.MethodName) prog_19_method_70_code (6 : Nat) (Option.some Jvm.ClassFile.FieldType.int)) ∈ lw_all := lw_g (lw_at lw_m9 74 rfl) rfl
theorem q2078 : (Jvm.Cond.methodLink "WindGasModel" (481 : Nat) ({ cls := "WindGasModel", name := "areOf", desc := "(IIII)Z" } : Jvm.MethodName)) ∈ lw_all := lw_g (lw_at lw_m9 75 rfl) rfl
theorem q2079 : (Jvm.Cond.privateMethod ({ cls := "WindGasModel", name := "areOf", desc := "(IIII)Z" } : Jvm.MethodName)) ∈ lw_tbl := lw_at lw_m9 76 rfl
theorem q2080 : (Jvm.Cond.instanceMethod ({ cls := "WindGasModel", name := "areOf", desc := "(IIII)Z" } : Jvm.MethodName)) ∈ lw_all := lw_g (lw_at lw_m9 77 rfl) rfl
theorem q2081 : (Jvm.Cond.code ({ cls := "WindGasModel", name := "areOf", desc := "(IIII)Z" } : Jvm.MethodName) prog_19_method_69_code (5 : Nat) (Option.some Jvm.ClassFile.FieldType.boolean)) ∈ lw_all := lw_g (lw_at lw_m9 78 rfl) rfl
theorem q2082 : (Jvm.Cond.methodLink "WindGasModel" (484 : Nat) ({ cls := "java/lang/Math", name := "abs", desc := "(I)I" } : Jvm.MethodName)) ∈ lw_all := lw_g (lw_at lw_m9 79 rfl) rfl
theorem q2084 : (Jvm.Cond.instanceMethod ({ cls := "WindGasModel", name := "plan", desc := "(III)I" } : Jvm.MethodName)) ∈ lw_all := lw_g (lw_at lw_m9 81 rfl) rfl
theorem q2085 : (Jvm.Cond.selects "WindGasModel" ({ cls := "WindGasModel", name := "plan", desc := "(III)I" } : Jvm.MethodName) ({ cls := "WindGasModel", name := "plan", desc := "(III)I" } : Jvm.MethodName)) ∈ lw_all := lw_g (lw_at lw_m9 82 rfl) rfl
theorem q2086 : (Jvm.Cond.code ({ cls := "WindGasModel", name := "plan", desc := "(III)I" } : Jvm.MethodName) prog_19_method_75_code (11 : Nat) (Option.some Jvm.ClassFile.FieldType.int)) ∈ lw_all := lw_g (lw_at lw_m9 83 rfl) rfl
theorem q2087 : (Jvm.Cond.methodLink "WindGasModel" (493 : Nat) ({ cls := "WindGasModel", name := "makes", desc := "(III)I" } : Jvm.MethodName)) ∈ lw_all := lw_g (lw_at lw_m9 84 rfl) rfl
theorem q2088 : (Jvm.Cond.privateMethod ({ cls := "WindGasModel", name := "makes", desc := "(III)I" } : Jvm.MethodName)) ∈ lw_tbl := lw_at lw_m9 85 rfl
theorem q2089 : (Jvm.Cond.instanceMethod ({ cls := "WindGasModel", name := "makes", desc := "(III)I" } : Jvm.MethodName)) ∈ lw_all := lw_g (lw_at lw_m9 86 rfl) rfl
theorem q2090 : (Jvm.Cond.code ({ cls := "WindGasModel", name := "makes", desc := "(III)I" } : Jvm.MethodName) prog_19_method_71_code (9 : Nat) (Option.some Jvm.ClassFile.FieldType.int)) ∈ lw_all := lw_g (lw_at lw_m9 87 rfl) rfl
theorem q2091 : (Jvm.Cond.methodLink "WindGasModel" (490 : Nat) ({ cls := "WindGasModel", name := "state", desc := "(III)I" } : Jvm.MethodName)) ∈ lw_all := lw_g (lw_at lw_m9 88 rfl) rfl
theorem q2092 : (Jvm.Cond.static ({ cls := "WindGasModel", name := "state", desc := "(III)I" } : Jvm.MethodName)) ∈ lw_all := lw_g (lw_at lw_m9 89 rfl) rfl
theorem q2093 : (Jvm.Cond.code ({ cls := "WindGasModel", name := "state", desc := "(III)I" } : Jvm.MethodName) prog_19_method_73_code (3 : Nat) (Option.some Jvm.ClassFile.FieldType.int)) ∈ lw_all := lw_g (lw_at lw_m9 90 rfl) rfl
theorem q2094 : (Jvm.Cond.methodLink "WindGasModel" (496 : Nat) ({ cls := "WindGasModel", name := "coins", desc := "(IIII)I" } : Jvm.MethodName)) ∈ lw_all := lw_g (lw_at lw_m9 91 rfl) rfl
theorem q2095 : (Jvm.Cond.privateMethod ({ cls := "WindGasModel", name := "coins", desc := "(IIII)I" } : Jvm.MethodName)) ∈ lw_tbl := lw_at lw_m9 92 rfl
theorem q2096 : (Jvm.Cond.instanceMethod ({ cls := "WindGasModel", name := "coins", desc := "(IIII)I" } : Jvm.MethodName)) ∈ lw_all := lw_g (lw_at lw_m9 93 rfl) rfl
theorem q2097 : (Jvm.Cond.code ({ cls := "WindGasModel", name := "coins", desc := "(IIII)I" } : Jvm.MethodName) prog_19_method_74_code (5 : Nat) (Option.some Jvm.ClassFile.FieldType.int)) ∈ lw_all := lw_g (lw_at lw_m9 94 rfl) rfl
theorem q2098 : (Jvm.Cond.methodLink "WindGasModel" (487 : Nat) ({ cls := "WindGasModel", name := "bits", desc := "(I)I" } : Jvm.MethodName)) ∈ lw_all := lw_g (lw_at lw_m9 95 rfl) rfl
theorem q2099 : (Jvm.Cond.static ({ cls := "WindGasModel", name := "bits", desc := "(I)I" } : Jvm.MethodName)) ∈ lw_all := lw_g (lw_at lw_m9 96 rfl) rfl
theorem q2100 : (Jvm.Cond.code ({ cls := "WindGasModel", name := "bits", desc := "(I)I" } : Jvm.MethodName) prog_19_method_72_code (3 : Nat) (Option.some Jvm.ClassFile.FieldType.int)) ∈ lw_all := lw_g (lw_at lw_m9 97 rfl) rfl
theorem q2102 : (Jvm.Cond.instanceMethod ({ cls := "WindGasModel", name := "sum", desc := "(I)J" } : Jvm.MethodName)) ∈ lw_all := lw_g (lw_at lw_m9 99 rfl) rfl
theorem q2103 : (Jvm.Cond.selects "WindGasModel" ({ cls := "WindGasModel", name := "sum", desc := "(I)J" } : Jvm.MethodName) ({ cls := "WindGasModel", name := "sum", desc := "(I)J" } : Jvm.MethodName)) ∈ lw_all := lw_g (lw_at lw_m9 100 rfl) rfl
theorem q2104 : (Jvm.Cond.code ({ cls := "WindGasModel", name := "sum", desc := "(I)J" } : Jvm.MethodName) prog_19_method_76_code (2 : Nat) (Option.some Jvm.ClassFile.FieldType.long)) ∈ lw_all := lw_g (lw_at lw_m9 101 rfl) rfl
theorem q2105 : (Jvm.Cond.constantLong "WindGasModel" (500 : Nat) (-1000000000000 : Int64)) ∈ lw_all := lw_g (lw_at lw_m9 102 rfl) rfl
theorem q2107 : (Jvm.Cond.instanceMethod ({ cls := "WindGasModel", name := "count", desc := "(I)I" } : Jvm.MethodName)) ∈ lw_all := lw_g (lw_at lw_m9 104 rfl) rfl
theorem q2108 : (Jvm.Cond.selects "WindGasModel" ({ cls := "WindGasModel", name := "count", desc := "(I)I" } : Jvm.MethodName) ({ cls := "WindGasModel", name := "count", desc := "(I)I" } : Jvm.MethodName)) ∈ lw_all := lw_g (lw_at lw_m9 105 rfl) rfl
theorem q2109 : (Jvm.Cond.code ({ cls := "WindGasModel", name := "count", desc := "(I)I" } : Jvm.MethodName) prog_19_method_77_code (4 : Nat) (Option.some Jvm.ClassFile.FieldType.int)) ∈ lw_all := lw_g (lw_at lw_m9 106 rfl) rfl
theorem q2121 : (Jvm.Cond.castable "WindGasModel" "java/lang/Object") ∈ lw_tbl := lw_at lw_m9 118 rfl
theorem in_X4 : ∀ w ∈ wsX40, w ∈ lw_all := lw_in wsX40 [1617, 1619, 1621, 1623, 1625, 1627, 1629, 1631, 1633, 1635, 1637, 1639, 1641, 1643, 1645, 1647, 1649, 1651, 1653, 1655, 1657, 1659, 1661, 1663, 1665, 1667, 1669, 1671, 1673, 1675, 1677, 1679, 1681, 1683, 1685, 1687, 1689, 1691, 1693, 1695, 1697, 1699, 1701, 1703, 1705, 1707, 1709, 1711, 1713, 1715, 1717, 1719, 1721, 1723, 1725, 1727, 1729, 1731, 1733, 1735, 1737, 1739, 1741, 1743, 1745, 1747, 1749, 1751, 1753, 1755, 1757, 1759, 1761, 1763, 1765, 1767, 1769, 1771, 1773] (by decide +kernel) (by decide +kernel)

/-! WindGas$Span -/
set_option maxRecDepth 100000
def RX5 : String := "WindGas$Span"
def TX5 : u_T := fun k => match k with
  | 0 => ("WindGas$Span", "from", "I", true)
  | 1 => ("WindGas$Span", "to", "I", true)
  | _ => ("WindGas$Span", "v", "I", true)
def tyX5 : Nat → FieldType := fun k => match k with
  | 0 => .int
  | 1 => .int
  | _ => .int
abbrev wsX50 : List Cond := u_ws RX5 TX5 3
theorem nmX5 : ∀ a, a < 3 → ∀ b, b < 3 → a ≠ b → (TX5 a).2.1 ≠ (TX5 b).2.1 := by decide +kernel
theorem tyX5_ok : ∀ k, k < 3 → parseFieldDescriptor (TX5 k).2.2.1 = some (tyX5 k) := by decide +kernel
abbrev cX5_init : ByteArray := prog_11_method_1_code
def yX5_init : MethodName := ⟨RX5, "<init>", "(III)V"⟩
abbrev cX5_from : ByteArray := prog_11_method_5_code
def yX5_from : MethodName := ⟨RX5, "from", "()I"⟩
abbrev cX5_to : ByteArray := prog_11_method_6_code
def yX5_to : MethodName := ⟨RX5, "to", "()I"⟩
abbrev cX5_v : ByteArray := prog_11_method_7_code
def yX5_v : MethodName := ⟨RX5, "v", "()I"⟩
theorem q93 : (Jvm.Cond.initialized "WindGas$Span") ∈ lw_all := lw_g (lw_at lw_m1 10 rfl) rfl
theorem q421 : (Jvm.Cond.instantiable "WindGas$Span" (3 : Nat)) ∈ lw_all := lw_g (lw_at lw_m2 98 rfl) rfl
theorem q423 : (Jvm.Cond.instanceMethod ({ cls := "WindGas$Span", name := "<init>", desc := "(III)V" } : Jvm.MethodName)) ∈ lw_all := lw_g (lw_at lw_m2 100 rfl) rfl
theorem q424 : (Jvm.Cond.code ({ cls := "WindGas$Span", name := "<init>", desc := "(III)V" } : Jvm.MethodName) prog_11_method_1_code (4 : Nat) (Option.none : Option Jvm.ClassFile.FieldType)) ∈ lw_all := lw_g (lw_at lw_m2 101 rfl) rfl
theorem q425 : (Jvm.Cond.methodLink "WindGas$Span" (1 : Nat) ({ cls := "java/lang/Record", name := "<init>", desc := "()V" } : Jvm.MethodName)) ∈ lw_all := lw_g (lw_at lw_m2 102 rfl) rfl
theorem q429 : (Jvm.Cond.fieldLink "WindGas$Span" (7 : Nat) "WindGas$Span" "from" "I") ∈ lw_all := lw_g (lw_at lw_m2 106 rfl) rfl
theorem q430 : (Jvm.Cond.fieldLink "WindGas$Span" (13 : Nat) "WindGas$Span" "to" "I") ∈ lw_all := lw_g (lw_at lw_m2 107 rfl) rfl
theorem q431 : (Jvm.Cond.fieldLink "WindGas$Span" (16 : Nat) "WindGas$Span" "v" "I") ∈ lw_all := lw_g (lw_at lw_m2 108 rfl) rfl
theorem q432 : (Jvm.Cond.laysFinal "WindGas$Span" "WindGas$Span" "from" "I") ∈ lw_all := lw_g (lw_at lw_m2 109 rfl) rfl
theorem q433 : (Jvm.Cond.soleField "WindGas$Span" "from") ∈ lw_all := lw_g (lw_at lw_m2 110 rfl) rfl
theorem q434 : (Jvm.Cond.laysFinal "WindGas$Span" "WindGas$Span" "to" "I") ∈ lw_all := lw_g (lw_at lw_m2 111 rfl) rfl
theorem q435 : (Jvm.Cond.soleField "WindGas$Span" "to") ∈ lw_all := lw_g (lw_at lw_m2 112 rfl) rfl
theorem q436 : (Jvm.Cond.laysFinal "WindGas$Span" "WindGas$Span" "v" "I") ∈ lw_all := lw_g (lw_at lw_m2 113 rfl) rfl
theorem q437 : (Jvm.Cond.soleField "WindGas$Span" "v") ∈ lw_all := lw_g (lw_at lw_m2 114 rfl) rfl
theorem q438 : (Jvm.Cond.superclass "WindGas$Span" "java/lang/Record") ∈ lw_all := lw_g (lw_at lw_m2 115 rfl) rfl
theorem q480 : (Jvm.Cond.selects "WindGas$Span" ({ cls := "java/lang/Object", name := "getClass", desc := "()Ljava/lang/Class;" } : Jvm.MethodName) ({ cls := "java/lang/Object", name := "getClass", desc := "()Ljava/lang/Class;" } : Jvm.MethodName)) ∈ lw_all := lw_g (lw_at lw_m2 157 rfl) rfl
theorem q530 : (Jvm.Cond.instanceMethod ({ cls := "WindGas$Span", name := "from", desc := "()I" } : Jvm.MethodName)) ∈ lw_all := lw_g (lw_at lw_m2 207 rfl) rfl
theorem q531 : (Jvm.Cond.selects "WindGas$Span" ({ cls := "WindGas$Span", name := "from", desc := "()I" } : Jvm.MethodName) ({ cls := "WindGas$Span", name := "from", desc := "()I" } : Jvm.MethodName)) ∈ lw_all := lw_g (lw_at lw_m2 208 rfl) rfl
theorem q532 : (Jvm.Cond.code ({ cls := "WindGas$Span", name := "from", desc := "()I" } : Jvm.MethodName) prog_11_method_5_code (1 : Nat) (Option.some Jvm.ClassFile.FieldType.int)) ∈ lw_all := lw_g (lw_at lw_m2 209 rfl) rfl
theorem q534 : (Jvm.Cond.instanceMethod ({ cls := "WindGas$Span", name := "to", desc := "()I" } : Jvm.MethodName)) ∈ lw_all := lw_g (lw_at lw_m2 211 rfl) rfl
theorem q535 : (Jvm.Cond.selects "WindGas$Span" ({ cls := "WindGas$Span", name := "to", desc := "()I" } : Jvm.MethodName) ({ cls := "WindGas$Span", name := "to", desc := "()I" } : Jvm.MethodName)) ∈ lw_all := lw_g (lw_at lw_m2 212 rfl) rfl
theorem q536 : (Jvm.Cond.code ({ cls := "WindGas$Span", name := "to", desc := "()I" } : Jvm.MethodName) prog_11_method_6_code (1 : Nat) (Option.some Jvm.ClassFile.FieldType.int)) ∈ lw_all := lw_g (lw_at lw_m2 213 rfl) rfl
theorem q538 : (Jvm.Cond.instanceMethod ({ cls := "WindGas$Span", name := "v", desc := "()I" } : Jvm.MethodName)) ∈ lw_all := lw_g (lw_at lw_m2 215 rfl) rfl
theorem q539 : (Jvm.Cond.selects "WindGas$Span" ({ cls := "WindGas$Span", name := "v", desc := "()I" } : Jvm.MethodName) ({ cls := "WindGas$Span", name := "v", desc := "()I" } : Jvm.MethodName)) ∈ lw_all := lw_g (lw_at lw_m2 216 rfl) rfl
theorem q540 : (Jvm.Cond.code ({ cls := "WindGas$Span", name := "v", desc := "()I" } : Jvm.MethodName) prog_11_method_7_code (1 : Nat) (Option.some Jvm.ClassFile.FieldType.int)) ∈ lw_all := lw_g (lw_at lw_m2 217 rfl) rfl
theorem q2122 : (Jvm.Cond.castable "WindGas$Span" "java/lang/Object") ∈ lw_tbl := lw_at lw_m9 119 rfl
theorem in_X5 : ∀ w ∈ wsX50, w ∈ lw_all := lw_in wsX50 [432, 434, 436] (by decide +kernel) (by decide +kernel)

/-! WindGas$Stack -/
set_option maxRecDepth 100000
def RX6 : String := "WindGas$Stack"
def TX6 : u_T := fun k => match k with
  | 0 => ("WindGas$Stack", "number", "I", true)
  | 1 => ("WindGas$Stack", "size", "I", true)
  | 2 => ("WindGas$Stack", "gives", "I", true)
  | 3 => ("WindGas$Stack", "dirt", "I", true)
  | 4 => ("WindGas$Stack", "wear", "I", false)
  | 5 => ("WindGas$Stack", "startsToday", "I", false)
  | 6 => ("WindGas$Stack", "starts", "I", false)
  | 7 => ("WindGas$Stack", "isOn", "Z", false)
  | _ => ("WindGas$Stack", "made", "J", false)
def tyX6 : Nat → FieldType := fun k => match k with
  | 0 => .int
  | 1 => .int
  | 2 => .int
  | 3 => .int
  | 4 => .int
  | 5 => .int
  | 6 => .int
  | 7 => .boolean
  | _ => .long
abbrev wsX60 : List Cond := u_ws RX6 TX6 9
theorem nmX6 : ∀ a, a < 9 → ∀ b, b < 9 → a ≠ b → (TX6 a).2.1 ≠ (TX6 b).2.1 := by decide +kernel
theorem tyX6_ok : ∀ k, k < 9 → parseFieldDescriptor (TX6 k).2.2.1 = some (tyX6 k) := by decide +kernel
abbrev cX6_init : ByteArray := prog_12_method_1_code
def yX6_init : MethodName := ⟨RX6, "<init>", "(IIII)V"⟩
abbrev cX6_least : ByteArray := prog_12_method_2_code
def yX6_least : MethodName := ⟨RX6, "least", "(LWindGas$Rules;)I"⟩
abbrev cX6_wears : ByteArray := prog_12_method_5_code
def yX6_wears : MethodName := ⟨RX6, "wears", "(I)V"⟩
abbrev cX6_gas : ByteArray := prog_12_method_3_code
def yX6_gas : MethodName := ⟨RX6, "gas", "(I)I"⟩
abbrev cX6_foul : ByteArray := prog_12_method_4_code
def yX6_foul : MethodName := ⟨RX6, "foul", "(I)I"⟩
theorem q100 : (Jvm.Cond.initialized "WindGas$Stack") ∈ lw_all := lw_g (lw_at lw_m1 17 rfl) rfl
theorem q187 : (Jvm.Cond.fieldLinkNest "WindGas$Stack" (24 : Nat) "WindGas$Rules" "least" "I" "WindGas") ∈ lw_tbl := lw_at lw_m1 104 rfl
theorem q481 : (Jvm.Cond.selects "WindGas$Stack" ({ cls := "java/lang/Object", name := "getClass", desc := "()Ljava/lang/Class;" } : Jvm.MethodName) ({ cls := "java/lang/Object", name := "getClass", desc := "()Ljava/lang/Class;" } : Jvm.MethodName)) ∈ lw_all := lw_g (lw_at lw_m2 158 rfl) rfl
theorem q1111 : (Jvm.Cond.instantiable "WindGas$Stack" (9 : Nat)) ∈ lw_all := lw_g (lw_at lw_m5 68 rfl) rfl
theorem q1113 : (Jvm.Cond.instanceMethod ({ cls := "WindGas$Stack", name := "<init>", desc := "(IIII)V" } : Jvm.MethodName)) ∈ lw_all := lw_g (lw_at lw_m5 70 rfl) rfl
theorem q1114 : (Jvm.Cond.code ({ cls := "WindGas$Stack", name := "<init>", desc := "(IIII)V" } : Jvm.MethodName) prog_12_method_1_code (5 : Nat) (Option.none : Option Jvm.ClassFile.FieldType)) ∈ lw_all := lw_g (lw_at lw_m5 71 rfl) rfl
theorem q1115 : (Jvm.Cond.methodLink "WindGas$Stack" (3 : Nat) ({ cls := "java/lang/Object", name := "<init>", desc := "()V" } : Jvm.MethodName)) ∈ lw_all := lw_g (lw_at lw_m5 72 rfl) rfl
theorem q1116 : (Jvm.Cond.fieldLink "WindGas$Stack" (9 : Nat) "WindGas$Stack" "number" "I") ∈ lw_all := lw_g (lw_at lw_m5 73 rfl) rfl
theorem q1118 : (Jvm.Cond.fieldLink "WindGas$Stack" (15 : Nat) "WindGas$Stack" "size" "I") ∈ lw_all := lw_g (lw_at lw_m5 75 rfl) rfl
theorem q1120 : (Jvm.Cond.fieldLink "WindGas$Stack" (18 : Nat) "WindGas$Stack" "gives" "I") ∈ lw_all := lw_g (lw_at lw_m5 77 rfl) rfl
theorem q1121 : (Jvm.Cond.fieldLink "WindGas$Stack" (21 : Nat) "WindGas$Stack" "dirt" "I") ∈ lw_all := lw_g (lw_at lw_m5 78 rfl) rfl
theorem q1122 : (Jvm.Cond.fieldLink "WindGas$Stack" (35 : Nat) "WindGas$Stack" "wear" "I") ∈ lw_all := lw_g (lw_at lw_m5 79 rfl) rfl
theorem q1128 : (Jvm.Cond.laysFinal "WindGas$Stack" "WindGas$Stack" "number" "I") ∈ lw_all := lw_g (lw_at lw_m5 85 rfl) rfl
theorem q1129 : (Jvm.Cond.soleField "WindGas$Stack" "number") ∈ lw_all := lw_g (lw_at lw_m5 86 rfl) rfl
theorem q1130 : (Jvm.Cond.laysFinal "WindGas$Stack" "WindGas$Stack" "size" "I") ∈ lw_all := lw_g (lw_at lw_m5 87 rfl) rfl
theorem q1131 : (Jvm.Cond.soleField "WindGas$Stack" "size") ∈ lw_all := lw_g (lw_at lw_m5 88 rfl) rfl
theorem q1132 : (Jvm.Cond.laysFinal "WindGas$Stack" "WindGas$Stack" "gives" "I") ∈ lw_all := lw_g (lw_at lw_m5 89 rfl) rfl
theorem q1133 : (Jvm.Cond.soleField "WindGas$Stack" "gives") ∈ lw_all := lw_g (lw_at lw_m5 90 rfl) rfl
theorem q1134 : (Jvm.Cond.laysFinal "WindGas$Stack" "WindGas$Stack" "dirt" "I") ∈ lw_all := lw_g (lw_at lw_m5 91 rfl) rfl
theorem q1135 : (Jvm.Cond.soleField "WindGas$Stack" "dirt") ∈ lw_all := lw_g (lw_at lw_m5 92 rfl) rfl
theorem q1136 : (Jvm.Cond.lays "WindGas$Stack" "WindGas$Stack" "wear" "I") ∈ lw_all := lw_g (lw_at lw_m5 93 rfl) rfl
theorem q1137 : (Jvm.Cond.soleField "WindGas$Stack" "wear") ∈ lw_all := lw_g (lw_at lw_m5 94 rfl) rfl
theorem q1138 : (Jvm.Cond.lays "WindGas$Stack" "WindGas$Stack" "startsToday" "I") ∈ lw_all := lw_g (lw_at lw_m5 95 rfl) rfl
theorem q1139 : (Jvm.Cond.soleField "WindGas$Stack" "startsToday") ∈ lw_all := lw_g (lw_at lw_m5 96 rfl) rfl
theorem q1140 : (Jvm.Cond.lays "WindGas$Stack" "WindGas$Stack" "starts" "I") ∈ lw_all := lw_g (lw_at lw_m5 97 rfl) rfl
theorem q1141 : (Jvm.Cond.soleField "WindGas$Stack" "starts") ∈ lw_all := lw_g (lw_at lw_m5 98 rfl) rfl
theorem q1142 : (Jvm.Cond.lays "WindGas$Stack" "WindGas$Stack" "isOn" "Z") ∈ lw_all := lw_g (lw_at lw_m5 99 rfl) rfl
theorem q1143 : (Jvm.Cond.soleField "WindGas$Stack" "isOn") ∈ lw_all := lw_g (lw_at lw_m5 100 rfl) rfl
theorem q1144 : (Jvm.Cond.lays "WindGas$Stack" "WindGas$Stack" "made" "J") ∈ lw_all := lw_g (lw_at lw_m5 101 rfl) rfl
theorem q1145 : (Jvm.Cond.soleField "WindGas$Stack" "made") ∈ lw_all := lw_g (lw_at lw_m5 102 rfl) rfl
theorem q1146 : (Jvm.Cond.superclass "WindGas$Stack" "java/lang/Object") ∈ lw_all := lw_g (lw_at lw_m5 103 rfl) rfl
theorem q1219 : (Jvm.Cond.instanceMethod ({ cls := "WindGas$Stack", name := "least", desc := "(LWindGas$Rules;)I" } : Jvm.MethodName)) ∈ lw_all := lw_g (lw_at lw_m5 176 rfl) rfl
theorem q1220 : (Jvm.Cond.selects "WindGas$Stack" ({ cls := "WindGas$Stack", name := "least", desc := "(LWindGas$Rules;)I" } : Jvm.MethodName) ({ cls := "WindGas$Stack", name := "least", desc := "(LWindGas$Rules;)I" } : Jvm.MethodName)) ∈ lw_all := lw_g (lw_at lw_m5 177 rfl) rfl
theorem q1221 : (Jvm.Cond.code ({ cls := "WindGas$Stack", name := "least", desc := "(LWindGas$Rules;)I" } : Jvm.MethodName) prog_12_method_2_code (2 : Nat) (Option.some Jvm.ClassFile.FieldType.int)) ∈ lw_all := lw_g (lw_at lw_m5 178 rfl) rfl
theorem q1222 : (Jvm.Cond.methodLink "WindGas$Stack" (29 : Nat) ({ cls := "java/lang/Math", name := "max", desc := "(II)I" } : Jvm.MethodName)) ∈ lw_all := lw_g (lw_at lw_m5 179 rfl) rfl
theorem q1224 : (Jvm.Cond.instanceMethod ({ cls := "WindGas$Stack", name := "wears", desc := "(I)V" } : Jvm.MethodName)) ∈ lw_all := lw_g (lw_at lw_m5 181 rfl) rfl
theorem q1225 : (Jvm.Cond.selects "WindGas$Stack" ({ cls := "WindGas$Stack", name := "wears", desc := "(I)V" } : Jvm.MethodName) ({ cls := "WindGas$Stack", name := "wears", desc := "(I)V" } : Jvm.MethodName)) ∈ lw_all := lw_g (lw_at lw_m5 182 rfl) rfl
theorem q1226 : (Jvm.Cond.code ({ cls := "WindGas$Stack", name := "wears", desc := "(I)V" } : Jvm.MethodName) prog_12_method_5_code (2 : Nat) (Option.none : Option Jvm.ClassFile.FieldType)) ∈ lw_all := lw_g (lw_at lw_m5 183 rfl) rfl
theorem q1227 : (Jvm.Cond.constant "WindGas$Stack" (43 : Nat) (50000 : Int32)) ∈ lw_all := lw_g (lw_at lw_m5 184 rfl) rfl
theorem q1228 : (Jvm.Cond.methodLink "WindGas$Stack" (38 : Nat) ({ cls := "java/lang/Math", name := "min", desc := "(II)I" } : Jvm.MethodName)) ∈ lw_all := lw_g (lw_at lw_m5 185 rfl) rfl
theorem q1230 : (Jvm.Cond.instanceMethod ({ cls := "WindGas$Stack", name := "gas", desc := "(I)I" } : Jvm.MethodName)) ∈ lw_all := lw_g (lw_at lw_m5 187 rfl) rfl
theorem q1231 : (Jvm.Cond.selects "WindGas$Stack" ({ cls := "WindGas$Stack", name := "gas", desc := "(I)I" } : Jvm.MethodName) ({ cls := "WindGas$Stack", name := "gas", desc := "(I)I" } : Jvm.MethodName)) ∈ lw_all := lw_g (lw_at lw_m5 188 rfl) rfl
theorem q1232 : (Jvm.Cond.code ({ cls := "WindGas$Stack", name := "gas", desc := "(I)I" } : Jvm.MethodName) prog_12_method_3_code (2 : Nat) (Option.some Jvm.ClassFile.FieldType.int)) ∈ lw_all := lw_g (lw_at lw_m5 189 rfl) rfl
theorem q1234 : (Jvm.Cond.instanceMethod ({ cls := "WindGas$Stack", name := "foul", desc := "(I)I" } : Jvm.MethodName)) ∈ lw_all := lw_g (lw_at lw_m5 191 rfl) rfl
theorem q1235 : (Jvm.Cond.selects "WindGas$Stack" ({ cls := "WindGas$Stack", name := "foul", desc := "(I)I" } : Jvm.MethodName) ({ cls := "WindGas$Stack", name := "foul", desc := "(I)I" } : Jvm.MethodName)) ∈ lw_all := lw_g (lw_at lw_m5 192 rfl) rfl
theorem q1236 : (Jvm.Cond.code ({ cls := "WindGas$Stack", name := "foul", desc := "(I)I" } : Jvm.MethodName) prog_12_method_4_code (2 : Nat) (Option.some Jvm.ClassFile.FieldType.int)) ∈ lw_all := lw_g (lw_at lw_m5 193 rfl) rfl
theorem q1237 : (Jvm.Cond.constantLong "WindGas$Stack" (41 : Nat) (10000 : Int64)) ∈ lw_all := lw_g (lw_at lw_m5 194 rfl) rfl
theorem q2123 : (Jvm.Cond.castable "WindGas$Stack" "java/lang/Object") ∈ lw_tbl := lw_at lw_m9 120 rfl
theorem in_X6 : ∀ w ∈ wsX60, w ∈ lw_all := lw_in wsX60 [1128, 1130, 1132, 1134, 1136, 1138, 1140, 1142, 1144] (by decide +kernel) (by decide +kernel)

/-! WindGas$Trip -/
set_option maxRecDepth 100000
def RX7 : String := "WindGas$Trip"
def TX7 : u_T := fun k => match k with
  | 0 => ("WindGas$Trip", "kind", "I", true)
  | 1 => ("WindGas$Trip", "ten", "I", true)
  | 2 => ("WindGas$Trip", "grams", "I", true)
  | 3 => ("WindGas$Trip", "sips", "Ljava/util/ArrayList;", true)
  | 4 => ("WindGas$Trip", "how", "I", false)
  | 5 => ("WindGas$Trip", "left", "I", false)
  | _ => ("WindGas$Trip", "foul", "I", false)
def tyX7 : Nat → FieldType := fun k => match k with
  | 0 => .int
  | 1 => .int
  | 2 => .int
  | 3 => .object "java/util/ArrayList"
  | 4 => .int
  | 5 => .int
  | _ => .int
abbrev wsX70 : List Cond := u_ws RX7 TX7 7
theorem nmX7 : ∀ a, a < 7 → ∀ b, b < 7 → a ≠ b → (TX7 a).2.1 ≠ (TX7 b).2.1 := by decide +kernel
theorem tyX7_ok : ∀ k, k < 7 → parseFieldDescriptor (TX7 k).2.2.1 = some (tyX7 k) := by decide +kernel
abbrev cX7_last : ByteArray := prog_16_method_2_code
def yX7_last : MethodName := ⟨RX7, "last", "()I"⟩
abbrev cX7_init : ByteArray := prog_16_method_1_code
def yX7_init : MethodName := ⟨RX7, "<init>", "(III)V"⟩
abbrev cX7_of : ByteArray := prog_16_method_3_code
def yX7_of : MethodName := ⟨RX7, "of", "(I)I"⟩
theorem q101 : (Jvm.Cond.initialized "WindGas$Trip") ∈ lw_all := lw_g (lw_at lw_m1 18 rfl) rfl
theorem q485 : (Jvm.Cond.selects "WindGas$Trip" ({ cls := "java/lang/Object", name := "getClass", desc := "()Ljava/lang/Class;" } : Jvm.MethodName) ({ cls := "java/lang/Object", name := "getClass", desc := "()Ljava/lang/Class;" } : Jvm.MethodName)) ∈ lw_all := lw_g (lw_at lw_m2 162 rfl) rfl
theorem q1284 : (Jvm.Cond.instanceMethod ({ cls := "WindGas$Trip", name := "last", desc := "()I" } : Jvm.MethodName)) ∈ lw_all := lw_g (lw_at lw_m6 1 rfl) rfl
theorem q1285 : (Jvm.Cond.selects "WindGas$Trip" ({ cls := "WindGas$Trip", name := "last", desc := "()I" } : Jvm.MethodName) ({ cls := "WindGas$Trip", name := "last", desc := "()I" } : Jvm.MethodName)) ∈ lw_all := lw_g (lw_at lw_m6 2 rfl) rfl
theorem q1286 : (Jvm.Cond.code ({ cls := "WindGas$Trip", name := "last", desc := "()I" } : Jvm.MethodName) prog_16_method_2_code (1 : Nat) (Option.some Jvm.ClassFile.FieldType.int)) ∈ lw_all := lw_g (lw_at lw_m6 3 rfl) rfl
theorem q1302 : (Jvm.Cond.instantiable "WindGas$Trip" (7 : Nat)) ∈ lw_all := lw_g (lw_at lw_m6 19 rfl) rfl
theorem q1304 : (Jvm.Cond.instanceMethod ({ cls := "WindGas$Trip", name := "<init>", desc := "(III)V" } : Jvm.MethodName)) ∈ lw_all := lw_g (lw_at lw_m6 21 rfl) rfl
theorem q1305 : (Jvm.Cond.code ({ cls := "WindGas$Trip", name := "<init>", desc := "(III)V" } : Jvm.MethodName) prog_16_method_1_code (4 : Nat) (Option.none : Option Jvm.ClassFile.FieldType)) ∈ lw_all := lw_g (lw_at lw_m6 22 rfl) rfl
theorem q1306 : (Jvm.Cond.methodLink "WindGas$Trip" (3 : Nat) ({ cls := "java/lang/Object", name := "<init>", desc := "()V" } : Jvm.MethodName)) ∈ lw_all := lw_g (lw_at lw_m6 23 rfl) rfl
theorem q1307 : (Jvm.Cond.classLink "WindGas$Trip" (9 : Nat) "java/util/ArrayList") ∈ lw_all := lw_g (lw_at lw_m6 24 rfl) rfl
theorem q1308 : (Jvm.Cond.methodLink "WindGas$Trip" (11 : Nat) ({ cls := "java/util/ArrayList", name := "<init>", desc := "()V" } : Jvm.MethodName)) ∈ lw_all := lw_g (lw_at lw_m6 25 rfl) rfl
theorem q1309 : (Jvm.Cond.fieldLink "WindGas$Trip" (22 : Nat) "WindGas$Trip" "kind" "I") ∈ lw_all := lw_g (lw_at lw_m6 26 rfl) rfl
theorem q1311 : (Jvm.Cond.fieldLink "WindGas$Trip" (25 : Nat) "WindGas$Trip" "ten" "I") ∈ lw_all := lw_g (lw_at lw_m6 28 rfl) rfl
theorem q1313 : (Jvm.Cond.fieldLink "WindGas$Trip" (28 : Nat) "WindGas$Trip" "grams" "I") ∈ lw_all := lw_g (lw_at lw_m6 30 rfl) rfl
theorem q1315 : (Jvm.Cond.fieldLink "WindGas$Trip" (12 : Nat) "WindGas$Trip" "sips" "Ljava/util/ArrayList;") ∈ lw_all := lw_g (lw_at lw_m6 32 rfl) rfl
theorem q1319 : (Jvm.Cond.fieldLink "WindGas$Trip" (18 : Nat) "WindGas$Trip" "left" "I") ∈ lw_all := lw_g (lw_at lw_m6 36 rfl) rfl
theorem q1322 : (Jvm.Cond.laysFinal "WindGas$Trip" "WindGas$Trip" "kind" "I") ∈ lw_all := lw_g (lw_at lw_m6 39 rfl) rfl
theorem q1323 : (Jvm.Cond.soleField "WindGas$Trip" "kind") ∈ lw_all := lw_g (lw_at lw_m6 40 rfl) rfl
theorem q1324 : (Jvm.Cond.laysFinal "WindGas$Trip" "WindGas$Trip" "ten" "I") ∈ lw_all := lw_g (lw_at lw_m6 41 rfl) rfl
theorem q1325 : (Jvm.Cond.soleField "WindGas$Trip" "ten") ∈ lw_all := lw_g (lw_at lw_m6 42 rfl) rfl
theorem q1326 : (Jvm.Cond.laysFinal "WindGas$Trip" "WindGas$Trip" "grams" "I") ∈ lw_all := lw_g (lw_at lw_m6 43 rfl) rfl
theorem q1327 : (Jvm.Cond.soleField "WindGas$Trip" "grams") ∈ lw_all := lw_g (lw_at lw_m6 44 rfl) rfl
theorem q1328 : (Jvm.Cond.laysFinal "WindGas$Trip" "WindGas$Trip" "sips" "Ljava/util/ArrayList;") ∈ lw_all := lw_g (lw_at lw_m6 45 rfl) rfl
theorem q1329 : (Jvm.Cond.soleField "WindGas$Trip" "sips") ∈ lw_all := lw_g (lw_at lw_m6 46 rfl) rfl
theorem q1330 : (Jvm.Cond.lays "WindGas$Trip" "WindGas$Trip" "how" "I") ∈ lw_all := lw_g (lw_at lw_m6 47 rfl) rfl
theorem q1331 : (Jvm.Cond.soleField "WindGas$Trip" "how") ∈ lw_all := lw_g (lw_at lw_m6 48 rfl) rfl
theorem q1332 : (Jvm.Cond.lays "WindGas$Trip" "WindGas$Trip" "left" "I") ∈ lw_all := lw_g (lw_at lw_m6 49 rfl) rfl
theorem q1333 : (Jvm.Cond.soleField "WindGas$Trip" "left") ∈ lw_all := lw_g (lw_at lw_m6 50 rfl) rfl
theorem q1334 : (Jvm.Cond.lays "WindGas$Trip" "WindGas$Trip" "foul" "I") ∈ lw_all := lw_g (lw_at lw_m6 51 rfl) rfl
theorem q1335 : (Jvm.Cond.soleField "WindGas$Trip" "foul") ∈ lw_all := lw_g (lw_at lw_m6 52 rfl) rfl
theorem q1336 : (Jvm.Cond.superclass "WindGas$Trip" "java/lang/Object") ∈ lw_all := lw_g (lw_at lw_m6 53 rfl) rfl
theorem q1379 : (Jvm.Cond.instanceMethod ({ cls := "WindGas$Trip", name := "of", desc := "(I)I" } : Jvm.MethodName)) ∈ lw_all := lw_g (lw_at lw_m6 96 rfl) rfl
theorem q1380 : (Jvm.Cond.selects "WindGas$Trip" ({ cls := "WindGas$Trip", name := "of", desc := "(I)I" } : Jvm.MethodName) ({ cls := "WindGas$Trip", name := "of", desc := "(I)I" } : Jvm.MethodName)) ∈ lw_all := lw_g (lw_at lw_m6 97 rfl) rfl
theorem q1381 : (Jvm.Cond.code ({ cls := "WindGas$Trip", name := "of", desc := "(I)I" } : Jvm.MethodName) prog_16_method_3_code (4 : Nat) (Option.some Jvm.ClassFile.FieldType.int)) ∈ lw_all := lw_g (lw_at lw_m6 98 rfl) rfl
theorem q1382 : (Jvm.Cond.methodLink "WindGas$Trip" (31 : Nat) ({ cls := "java/util/ArrayList", name := "size", desc := "()I" } : Jvm.MethodName)) ∈ lw_all := lw_g (lw_at lw_m6 99 rfl) rfl
theorem q1383 : (Jvm.Cond.methodLink "WindGas$Trip" (35 : Nat) ({ cls := "java/util/ArrayList", name := "get", desc := "(I)Ljava/lang/Object;" } : Jvm.MethodName)) ∈ lw_all := lw_g (lw_at lw_m6 100 rfl) rfl
theorem q1384 : (Jvm.Cond.classLink "WindGas$Trip" (39 : Nat) "WindGas$Sip") ∈ lw_all := lw_g (lw_at lw_m6 101 rfl) rfl
theorem q1385 : (Jvm.Cond.methodLink "WindGas$Trip" (41 : Nat) ({ cls := "WindGas$Sip", name := "hour", desc := "()I" } : Jvm.MethodName)) ∈ lw_all := lw_g (lw_at lw_m6 102 rfl) rfl
theorem q1386 : (Jvm.Cond.methodLink "WindGas$Trip" (44 : Nat) ({ cls := "WindGas$Sip", name := "grams", desc := "()I" } : Jvm.MethodName)) ∈ lw_all := lw_g (lw_at lw_m6 103 rfl) rfl
theorem q2124 : (Jvm.Cond.castable "WindGas$Trip" "java/lang/Object") ∈ lw_tbl := lw_at lw_m9 121 rfl
theorem in_X7 : ∀ w ∈ wsX70, w ∈ lw_all := lw_in wsX70 [1322, 1324, 1326, 1328, 1330, 1332, 1334] (by decide +kernel) (by decide +kernel)

/-! WindGas$Lot -/
set_option maxRecDepth 100000
def RX8 : String := "WindGas$Lot"
def TX8 : u_T := fun k => match k with
  | 0 => ("WindGas$Lot", "hour", "I", true)
  | 1 => ("WindGas$Lot", "grams", "I", false)
  | _ => ("WindGas$Lot", "foul", "I", false)
def tyX8 : Nat → FieldType := fun k => match k with
  | 0 => .int
  | 1 => .int
  | _ => .int
abbrev wsX80 : List Cond := u_ws RX8 TX8 3
theorem nmX8 : ∀ a, a < 3 → ∀ b, b < 3 → a ≠ b → (TX8 a).2.1 ≠ (TX8 b).2.1 := by decide +kernel
theorem tyX8_ok : ∀ k, k < 3 → parseFieldDescriptor (TX8 k).2.2.1 = some (tyX8 k) := by decide +kernel
abbrev cX8_takes : ByteArray := prog_4_method_3_code
def yX8_takes : MethodName := ⟨RX8, "takes", "(I)V"⟩
abbrev cX8_foulOf : ByteArray := prog_4_method_2_code
def yX8_foulOf : MethodName := ⟨RX8, "foulOf", "(I)I"⟩
abbrev cX8_init : ByteArray := prog_4_method_1_code
def yX8_init : MethodName := ⟨RX8, "<init>", "(I)V"⟩
theorem q102 : (Jvm.Cond.initialized "WindGas$Lot") ∈ lw_all := lw_g (lw_at lw_m1 19 rfl) rfl
theorem q473 : (Jvm.Cond.selects "WindGas$Lot" ({ cls := "java/lang/Object", name := "getClass", desc := "()Ljava/lang/Class;" } : Jvm.MethodName) ({ cls := "java/lang/Object", name := "getClass", desc := "()Ljava/lang/Class;" } : Jvm.MethodName)) ∈ lw_all := lw_g (lw_at lw_m2 150 rfl) rfl
theorem q1086 : (Jvm.Cond.instanceMethod ({ cls := "WindGas$Lot", name := "takes", desc := "(I)V" } : Jvm.MethodName)) ∈ lw_all := lw_g (lw_at lw_m5 43 rfl) rfl
theorem q1087 : (Jvm.Cond.selects "WindGas$Lot" ({ cls := "WindGas$Lot", name := "takes", desc := "(I)V" } : Jvm.MethodName) ({ cls := "WindGas$Lot", name := "takes", desc := "(I)V" } : Jvm.MethodName)) ∈ lw_all := lw_g (lw_at lw_m5 44 rfl) rfl
theorem q1088 : (Jvm.Cond.code ({ cls := "WindGas$Lot", name := "takes", desc := "(I)V" } : Jvm.MethodName) prog_4_method_3_code (2 : Nat) (Option.none : Option Jvm.ClassFile.FieldType)) ∈ lw_all := lw_g (lw_at lw_m5 45 rfl) rfl
theorem q1089 : (Jvm.Cond.methodLink "WindGas$Lot" (19 : Nat) ({ cls := "WindGas$Lot", name := "foulOf", desc := "(I)I" } : Jvm.MethodName)) ∈ lw_all := lw_g (lw_at lw_m5 46 rfl) rfl
theorem q1090 : (Jvm.Cond.instanceMethod ({ cls := "WindGas$Lot", name := "foulOf", desc := "(I)I" } : Jvm.MethodName)) ∈ lw_all := lw_g (lw_at lw_m5 47 rfl) rfl
theorem q1091 : (Jvm.Cond.selects "WindGas$Lot" ({ cls := "WindGas$Lot", name := "foulOf", desc := "(I)I" } : Jvm.MethodName) ({ cls := "WindGas$Lot", name := "foulOf", desc := "(I)I" } : Jvm.MethodName)) ∈ lw_all := lw_g (lw_at lw_m5 48 rfl) rfl
theorem q1092 : (Jvm.Cond.code ({ cls := "WindGas$Lot", name := "foulOf", desc := "(I)I" } : Jvm.MethodName) prog_4_method_2_code (2 : Nat) (Option.some Jvm.ClassFile.FieldType.int)) ∈ lw_all := lw_g (lw_at lw_m5 49 rfl) rfl
theorem q1251 : (Jvm.Cond.instantiable "WindGas$Lot" (3 : Nat)) ∈ lw_all := lw_g (lw_at lw_m5 208 rfl) rfl
theorem q1253 : (Jvm.Cond.instanceMethod ({ cls := "WindGas$Lot", name := "<init>", desc := "(I)V" } : Jvm.MethodName)) ∈ lw_all := lw_g (lw_at lw_m5 210 rfl) rfl
theorem q1254 : (Jvm.Cond.code ({ cls := "WindGas$Lot", name := "<init>", desc := "(I)V" } : Jvm.MethodName) prog_4_method_1_code (2 : Nat) (Option.none : Option Jvm.ClassFile.FieldType)) ∈ lw_all := lw_g (lw_at lw_m5 211 rfl) rfl
theorem q1255 : (Jvm.Cond.methodLink "WindGas$Lot" (1 : Nat) ({ cls := "java/lang/Object", name := "<init>", desc := "()V" } : Jvm.MethodName)) ∈ lw_all := lw_g (lw_at lw_m5 212 rfl) rfl
theorem q1256 : (Jvm.Cond.fieldLink "WindGas$Lot" (7 : Nat) "WindGas$Lot" "hour" "I") ∈ lw_all := lw_g (lw_at lw_m5 213 rfl) rfl
theorem q1259 : (Jvm.Cond.fieldLink "WindGas$Lot" (13 : Nat) "WindGas$Lot" "grams" "I") ∈ lw_all := lw_g (lw_at lw_m5 216 rfl) rfl
theorem q1262 : (Jvm.Cond.fieldLink "WindGas$Lot" (16 : Nat) "WindGas$Lot" "foul" "I") ∈ lw_all := lw_g (lw_at lw_m5 219 rfl) rfl
theorem q1265 : (Jvm.Cond.laysFinal "WindGas$Lot" "WindGas$Lot" "hour" "I") ∈ lw_all := lw_g (lw_at lw_m5 222 rfl) rfl
theorem q1266 : (Jvm.Cond.soleField "WindGas$Lot" "hour") ∈ lw_all := lw_g (lw_at lw_m5 223 rfl) rfl
theorem q1267 : (Jvm.Cond.lays "WindGas$Lot" "WindGas$Lot" "grams" "I") ∈ lw_all := lw_g (lw_at lw_m5 224 rfl) rfl
theorem q1268 : (Jvm.Cond.soleField "WindGas$Lot" "grams") ∈ lw_all := lw_g (lw_at lw_m5 225 rfl) rfl
theorem q1269 : (Jvm.Cond.lays "WindGas$Lot" "WindGas$Lot" "foul" "I") ∈ lw_all := lw_g (lw_at lw_m5 226 rfl) rfl
theorem q1270 : (Jvm.Cond.soleField "WindGas$Lot" "foul") ∈ lw_all := lw_g (lw_at lw_m5 227 rfl) rfl
theorem q1271 : (Jvm.Cond.superclass "WindGas$Lot" "java/lang/Object") ∈ lw_all := lw_g (lw_at lw_m5 228 rfl) rfl
theorem q2125 : (Jvm.Cond.castable "WindGas$Lot" "java/lang/Object") ∈ lw_tbl := lw_at lw_m9 122 rfl
theorem in_X8 : ∀ w ∈ wsX80, w ∈ lw_all := lw_in wsX80 [1265, 1267, 1269] (by decide +kernel) (by decide +kernel)

/-! WindGas$Sip -/
set_option maxRecDepth 100000
def RX9 : String := "WindGas$Sip"
def TX9 : u_T := fun k => match k with
  | 0 => ("WindGas$Sip", "hour", "I", true)
  | _ => ("WindGas$Sip", "grams", "I", true)
def tyX9 : Nat → FieldType := fun k => match k with
  | 0 => .int
  | _ => .int
abbrev wsX90 : List Cond := u_ws RX9 TX9 2
theorem nmX9 : ∀ a, a < 2 → ∀ b, b < 2 → a ≠ b → (TX9 a).2.1 ≠ (TX9 b).2.1 := by decide +kernel
theorem tyX9_ok : ∀ k, k < 2 → parseFieldDescriptor (TX9 k).2.2.1 = some (tyX9 k) := by decide +kernel
abbrev cX9_init : ByteArray := prog_10_method_1_code
def yX9_init : MethodName := ⟨RX9, "<init>", "(II)V"⟩
abbrev cX9_hour : ByteArray := prog_10_method_5_code
def yX9_hour : MethodName := ⟨RX9, "hour", "()I"⟩
abbrev cX9_grams : ByteArray := prog_10_method_6_code
def yX9_grams : MethodName := ⟨RX9, "grams", "()I"⟩
theorem q103 : (Jvm.Cond.initialized "WindGas$Sip") ∈ lw_all := lw_g (lw_at lw_m1 20 rfl) rfl
theorem q479 : (Jvm.Cond.selects "WindGas$Sip" ({ cls := "java/lang/Object", name := "getClass", desc := "()Ljava/lang/Class;" } : Jvm.MethodName) ({ cls := "java/lang/Object", name := "getClass", desc := "()Ljava/lang/Class;" } : Jvm.MethodName)) ∈ lw_all := lw_g (lw_at lw_m2 156 rfl) rfl
theorem q1072 : (Jvm.Cond.instantiable "WindGas$Sip" (2 : Nat)) ∈ lw_all := lw_g (lw_at lw_m5 29 rfl) rfl
theorem q1074 : (Jvm.Cond.instanceMethod ({ cls := "WindGas$Sip", name := "<init>", desc := "(II)V" } : Jvm.MethodName)) ∈ lw_all := lw_g (lw_at lw_m5 31 rfl) rfl
theorem q1075 : (Jvm.Cond.code ({ cls := "WindGas$Sip", name := "<init>", desc := "(II)V" } : Jvm.MethodName) prog_10_method_1_code (3 : Nat) (Option.none : Option Jvm.ClassFile.FieldType)) ∈ lw_all := lw_g (lw_at lw_m5 32 rfl) rfl
theorem q1076 : (Jvm.Cond.methodLink "WindGas$Sip" (1 : Nat) ({ cls := "java/lang/Record", name := "<init>", desc := "()V" } : Jvm.MethodName)) ∈ lw_all := lw_g (lw_at lw_m5 33 rfl) rfl
theorem q1077 : (Jvm.Cond.fieldLink "WindGas$Sip" (7 : Nat) "WindGas$Sip" "hour" "I") ∈ lw_all := lw_g (lw_at lw_m5 34 rfl) rfl
theorem q1078 : (Jvm.Cond.fieldLink "WindGas$Sip" (13 : Nat) "WindGas$Sip" "grams" "I") ∈ lw_all := lw_g (lw_at lw_m5 35 rfl) rfl
theorem q1079 : (Jvm.Cond.laysFinal "WindGas$Sip" "WindGas$Sip" "hour" "I") ∈ lw_all := lw_g (lw_at lw_m5 36 rfl) rfl
theorem q1080 : (Jvm.Cond.soleField "WindGas$Sip" "hour") ∈ lw_all := lw_g (lw_at lw_m5 37 rfl) rfl
theorem q1081 : (Jvm.Cond.laysFinal "WindGas$Sip" "WindGas$Sip" "grams" "I") ∈ lw_all := lw_g (lw_at lw_m5 38 rfl) rfl
theorem q1082 : (Jvm.Cond.soleField "WindGas$Sip" "grams") ∈ lw_all := lw_g (lw_at lw_m5 39 rfl) rfl
theorem q1083 : (Jvm.Cond.superclass "WindGas$Sip" "java/lang/Record") ∈ lw_all := lw_g (lw_at lw_m5 40 rfl) rfl
theorem q1364 : (Jvm.Cond.instanceMethod ({ cls := "WindGas$Sip", name := "hour", desc := "()I" } : Jvm.MethodName)) ∈ lw_all := lw_g (lw_at lw_m6 81 rfl) rfl
theorem q1365 : (Jvm.Cond.selects "WindGas$Sip" ({ cls := "WindGas$Sip", name := "hour", desc := "()I" } : Jvm.MethodName) ({ cls := "WindGas$Sip", name := "hour", desc := "()I" } : Jvm.MethodName)) ∈ lw_all := lw_g (lw_at lw_m6 82 rfl) rfl
theorem q1366 : (Jvm.Cond.code ({ cls := "WindGas$Sip", name := "hour", desc := "()I" } : Jvm.MethodName) prog_10_method_5_code (1 : Nat) (Option.some Jvm.ClassFile.FieldType.int)) ∈ lw_all := lw_g (lw_at lw_m6 83 rfl) rfl
theorem q1368 : (Jvm.Cond.instanceMethod ({ cls := "WindGas$Sip", name := "grams", desc := "()I" } : Jvm.MethodName)) ∈ lw_all := lw_g (lw_at lw_m6 85 rfl) rfl
theorem q1369 : (Jvm.Cond.selects "WindGas$Sip" ({ cls := "WindGas$Sip", name := "grams", desc := "()I" } : Jvm.MethodName) ({ cls := "WindGas$Sip", name := "grams", desc := "()I" } : Jvm.MethodName)) ∈ lw_all := lw_g (lw_at lw_m6 86 rfl) rfl
theorem q1370 : (Jvm.Cond.code ({ cls := "WindGas$Sip", name := "grams", desc := "()I" } : Jvm.MethodName) prog_10_method_6_code (1 : Nat) (Option.some Jvm.ClassFile.FieldType.int)) ∈ lw_all := lw_g (lw_at lw_m6 87 rfl) rfl
theorem q2126 : (Jvm.Cond.castable "WindGas$Sip" "java/lang/Object") ∈ lw_tbl := lw_at lw_m9 123 rfl
theorem in_X9 : ∀ w ∈ wsX90, w ∈ lw_all := lw_in wsX90 [1079, 1081] (by decide +kernel) (by decide +kernel)

/-! WindGas$Paper -/
set_option maxRecDepth 100000
def RX10 : String := "WindGas$Paper"
def TX10 : u_T := fun k => match k with
  | 0 => ("WindGas$Paper", "trip", "I", true)
  | 1 => ("WindGas$Paper", "buyer", "I", true)
  | _ => ("WindGas$Paper", "grams", "I", true)
def tyX10 : Nat → FieldType := fun k => match k with
  | 0 => .int
  | 1 => .int
  | _ => .int
abbrev wsX100 : List Cond := u_ws RX10 TX10 3
theorem nmX10 : ∀ a, a < 3 → ∀ b, b < 3 → a ≠ b → (TX10 a).2.1 ≠ (TX10 b).2.1 := by decide +kernel
theorem tyX10_ok : ∀ k, k < 3 → parseFieldDescriptor (TX10 k).2.2.1 = some (tyX10 k) := by decide +kernel
abbrev cX10_init : ByteArray := prog_6_method_1_code
def yX10_init : MethodName := ⟨RX10, "<init>", "(III)V"⟩
abbrev cX10_trip : ByteArray := prog_6_method_5_code
def yX10_trip : MethodName := ⟨RX10, "trip", "()I"⟩
abbrev cX10_buyer : ByteArray := prog_6_method_6_code
def yX10_buyer : MethodName := ⟨RX10, "buyer", "()I"⟩
abbrev cX10_grams : ByteArray := prog_6_method_7_code
def yX10_grams : MethodName := ⟨RX10, "grams", "()I"⟩
theorem q104 : (Jvm.Cond.initialized "WindGas$Paper") ∈ lw_all := lw_g (lw_at lw_m1 21 rfl) rfl
theorem q475 : (Jvm.Cond.selects "WindGas$Paper" ({ cls := "java/lang/Object", name := "getClass", desc := "()Ljava/lang/Class;" } : Jvm.MethodName) ({ cls := "java/lang/Object", name := "getClass", desc := "()Ljava/lang/Class;" } : Jvm.MethodName)) ∈ lw_all := lw_g (lw_at lw_m2 152 rfl) rfl
theorem q1393 : (Jvm.Cond.instantiable "WindGas$Paper" (3 : Nat)) ∈ lw_all := lw_g (lw_at lw_m6 110 rfl) rfl
theorem q1395 : (Jvm.Cond.instanceMethod ({ cls := "WindGas$Paper", name := "<init>", desc := "(III)V" } : Jvm.MethodName)) ∈ lw_all := lw_g (lw_at lw_m6 112 rfl) rfl
theorem q1396 : (Jvm.Cond.code ({ cls := "WindGas$Paper", name := "<init>", desc := "(III)V" } : Jvm.MethodName) prog_6_method_1_code (4 : Nat) (Option.none : Option Jvm.ClassFile.FieldType)) ∈ lw_all := lw_g (lw_at lw_m6 113 rfl) rfl
theorem q1397 : (Jvm.Cond.methodLink "WindGas$Paper" (1 : Nat) ({ cls := "java/lang/Record", name := "<init>", desc := "()V" } : Jvm.MethodName)) ∈ lw_all := lw_g (lw_at lw_m6 114 rfl) rfl
theorem q1398 : (Jvm.Cond.fieldLink "WindGas$Paper" (7 : Nat) "WindGas$Paper" "trip" "I") ∈ lw_all := lw_g (lw_at lw_m6 115 rfl) rfl
theorem q1399 : (Jvm.Cond.fieldLink "WindGas$Paper" (13 : Nat) "WindGas$Paper" "buyer" "I") ∈ lw_all := lw_g (lw_at lw_m6 116 rfl) rfl
theorem q1400 : (Jvm.Cond.fieldLink "WindGas$Paper" (16 : Nat) "WindGas$Paper" "grams" "I") ∈ lw_all := lw_g (lw_at lw_m6 117 rfl) rfl
theorem q1401 : (Jvm.Cond.laysFinal "WindGas$Paper" "WindGas$Paper" "trip" "I") ∈ lw_all := lw_g (lw_at lw_m6 118 rfl) rfl
theorem q1402 : (Jvm.Cond.soleField "WindGas$Paper" "trip") ∈ lw_all := lw_g (lw_at lw_m6 119 rfl) rfl
theorem q1403 : (Jvm.Cond.laysFinal "WindGas$Paper" "WindGas$Paper" "buyer" "I") ∈ lw_all := lw_g (lw_at lw_m6 120 rfl) rfl
theorem q1404 : (Jvm.Cond.soleField "WindGas$Paper" "buyer") ∈ lw_all := lw_g (lw_at lw_m6 121 rfl) rfl
theorem q1405 : (Jvm.Cond.laysFinal "WindGas$Paper" "WindGas$Paper" "grams" "I") ∈ lw_all := lw_g (lw_at lw_m6 122 rfl) rfl
theorem q1406 : (Jvm.Cond.soleField "WindGas$Paper" "grams") ∈ lw_all := lw_g (lw_at lw_m6 123 rfl) rfl
theorem q1407 : (Jvm.Cond.superclass "WindGas$Paper" "java/lang/Record") ∈ lw_all := lw_g (lw_at lw_m6 124 rfl) rfl
theorem q1413 : (Jvm.Cond.instanceMethod ({ cls := "WindGas$Paper", name := "trip", desc := "()I" } : Jvm.MethodName)) ∈ lw_all := lw_g (lw_at lw_m6 130 rfl) rfl
theorem q1414 : (Jvm.Cond.selects "WindGas$Paper" ({ cls := "WindGas$Paper", name := "trip", desc := "()I" } : Jvm.MethodName) ({ cls := "WindGas$Paper", name := "trip", desc := "()I" } : Jvm.MethodName)) ∈ lw_all := lw_g (lw_at lw_m6 131 rfl) rfl
theorem q1415 : (Jvm.Cond.code ({ cls := "WindGas$Paper", name := "trip", desc := "()I" } : Jvm.MethodName) prog_6_method_5_code (1 : Nat) (Option.some Jvm.ClassFile.FieldType.int)) ∈ lw_all := lw_g (lw_at lw_m6 132 rfl) rfl
theorem q1417 : (Jvm.Cond.instanceMethod ({ cls := "WindGas$Paper", name := "buyer", desc := "()I" } : Jvm.MethodName)) ∈ lw_all := lw_g (lw_at lw_m6 134 rfl) rfl
theorem q1418 : (Jvm.Cond.selects "WindGas$Paper" ({ cls := "WindGas$Paper", name := "buyer", desc := "()I" } : Jvm.MethodName) ({ cls := "WindGas$Paper", name := "buyer", desc := "()I" } : Jvm.MethodName)) ∈ lw_all := lw_g (lw_at lw_m6 135 rfl) rfl
theorem q1419 : (Jvm.Cond.code ({ cls := "WindGas$Paper", name := "buyer", desc := "()I" } : Jvm.MethodName) prog_6_method_6_code (1 : Nat) (Option.some Jvm.ClassFile.FieldType.int)) ∈ lw_all := lw_g (lw_at lw_m6 136 rfl) rfl
theorem q1421 : (Jvm.Cond.instanceMethod ({ cls := "WindGas$Paper", name := "grams", desc := "()I" } : Jvm.MethodName)) ∈ lw_all := lw_g (lw_at lw_m6 138 rfl) rfl
theorem q1422 : (Jvm.Cond.selects "WindGas$Paper" ({ cls := "WindGas$Paper", name := "grams", desc := "()I" } : Jvm.MethodName) ({ cls := "WindGas$Paper", name := "grams", desc := "()I" } : Jvm.MethodName)) ∈ lw_all := lw_g (lw_at lw_m6 139 rfl) rfl
theorem q1423 : (Jvm.Cond.code ({ cls := "WindGas$Paper", name := "grams", desc := "()I" } : Jvm.MethodName) prog_6_method_7_code (1 : Nat) (Option.some Jvm.ClassFile.FieldType.int)) ∈ lw_all := lw_g (lw_at lw_m6 140 rfl) rfl
theorem q2127 : (Jvm.Cond.castable "WindGas$Paper" "java/lang/Object") ∈ lw_tbl := lw_at lw_m9 124 rfl
theorem in_X10 : ∀ w ∈ wsX100, w ∈ lw_all := lw_in wsX100 [1401, 1403, 1405] (by decide +kernel) (by decide +kernel)

/-! WindGas$Wrong -/
set_option maxRecDepth 100000
def RX11 : String := "WindGas$Wrong"
def TX11 : u_T := fun k => match k with
  | 0 => ("java/lang/Throwable", "cause", "Ljava/lang/Throwable;", false)
  | 1 => ("java/lang/Throwable", "stackTrace", "[Ljava/lang/StackTraceElement;", false)
  | 2 => ("java/lang/Throwable", "suppressedExceptions", "Ljava/util/List;", false)
  | 3 => ("java/lang/Throwable", "detailMessage", "Ljava/lang/String;", false)
  | 4 => ("java/lang/Throwable", "backtrace", "Ljava/lang/Object;", false)
  | 5 => ("java/lang/Throwable", "depth", "I", false)
  | _ => ("WindGas$Wrong", "place", "I", true)
def tyX11 : Nat → FieldType := fun k => match k with
  | 0 => .object "java/lang/Throwable"
  | 1 => .array (.object "java/lang/StackTraceElement")
  | 2 => .object "java/util/List"
  | 3 => .object "java/lang/String"
  | 4 => .object "java/lang/Object"
  | 5 => .int
  | _ => .int
abbrev wsX110 : List Cond := u_ws RX11 TX11 7
theorem nmX11 : ∀ a, a < 7 → ∀ b, b < 7 → a ≠ b → (TX11 a).2.1 ≠ (TX11 b).2.1 := by decide +kernel
theorem tyX11_ok : ∀ k, k < 7 → parseFieldDescriptor (TX11 k).2.2.1 = some (tyX11 k) := by decide +kernel
abbrev cX11_init : ByteArray := prog_17_method_1_code
def yX11_init : MethodName := ⟨RX11, "<init>", "(I)V"⟩
theorem q113 : (Jvm.Cond.initialized "WindGas$Wrong") ∈ lw_all := lw_g (lw_at lw_m1 30 rfl) rfl
theorem q486 : (Jvm.Cond.selects "WindGas$Wrong" ({ cls := "java/lang/Object", name := "getClass", desc := "()Ljava/lang/Class;" } : Jvm.MethodName) ({ cls := "java/lang/Object", name := "getClass", desc := "()Ljava/lang/Class;" } : Jvm.MethodName)) ∈ lw_all := lw_g (lw_at lw_m2 163 rfl) rfl
theorem q760 : (Jvm.Cond.instantiable "WindGas$Wrong" (7 : Nat)) ∈ lw_all := lw_g (lw_at lw_m3 197 rfl) rfl
theorem q761 : (Jvm.Cond.castable "WindGas$Wrong" "WindGas$Wrong") ∈ lw_tbl := lw_at lw_m3 198 rfl
theorem q768 : (Jvm.Cond.selects "WindGas$Wrong" ({ cls := "java/lang/Throwable", name := "fillInStackTrace", desc := "(I)Ljava/lang/Throwable;" } : Jvm.MethodName) ({ cls := "java/lang/Throwable", name := "fillInStackTrace", desc := "(I)Ljava/lang/Throwable;" } : Jvm.MethodName)) ∈ lw_all := lw_g (lw_at lw_m3 205 rfl) rfl
theorem q769 : (Jvm.Cond.selects "WindGas$Wrong" ({ cls := "java/lang/Throwable", name := "fillInStackTrace", desc := "()Ljava/lang/Throwable;" } : Jvm.MethodName) ({ cls := "java/lang/Throwable", name := "fillInStackTrace", desc := "()Ljava/lang/Throwable;" } : Jvm.MethodName)) ∈ lw_all := lw_g (lw_at lw_m3 206 rfl) rfl
theorem q770 : (Jvm.Cond.lays "WindGas$Wrong" "java/lang/Throwable" "cause" "Ljava/lang/Throwable;") ∈ lw_all := lw_g (lw_at lw_m3 207 rfl) rfl
theorem q772 : (Jvm.Cond.lays "WindGas$Wrong" "java/lang/Throwable" "stackTrace" "[Ljava/lang/StackTraceElement;") ∈ lw_all := lw_g (lw_at lw_m3 209 rfl) rfl
theorem q774 : (Jvm.Cond.lays "WindGas$Wrong" "java/lang/Throwable" "suppressedExceptions" "Ljava/util/List;") ∈ lw_all := lw_g (lw_at lw_m3 211 rfl) rfl
theorem q776 : (Jvm.Cond.lays "WindGas$Wrong" "java/lang/Throwable" "detailMessage" "Ljava/lang/String;") ∈ lw_all := lw_g (lw_at lw_m3 213 rfl) rfl
theorem q778 : (Jvm.Cond.lays "WindGas$Wrong" "java/lang/Throwable" "backtrace" "Ljava/lang/Object;") ∈ lw_all := lw_g (lw_at lw_m3 215 rfl) rfl
theorem q799 : (Jvm.Cond.instanceMethod ({ cls := "WindGas$Wrong", name := "<init>", desc := "(I)V" } : Jvm.MethodName)) ∈ lw_all := lw_g (lw_at lw_m3 236 rfl) rfl
theorem q800 : (Jvm.Cond.code ({ cls := "WindGas$Wrong", name := "<init>", desc := "(I)V" } : Jvm.MethodName) prog_17_method_1_code (2 : Nat) (Option.none : Option Jvm.ClassFile.FieldType)) ∈ lw_all := lw_g (lw_at lw_m3 237 rfl) rfl
theorem q801 : (Jvm.Cond.methodLink "WindGas$Wrong" (1 : Nat) ({ cls := "java/lang/RuntimeException", name := "<init>", desc := "(Ljava/lang/String;Ljava/lang/Throwable;ZZ)V" } : Jvm.MethodName)) ∈ lw_all := lw_g (lw_at lw_m3 238 rfl) rfl
theorem q810 : (Jvm.Cond.fieldLink "WindGas$Wrong" (7 : Nat) "WindGas$Wrong" "place" "I") ∈ lw_all := lw_g (lw_at lw_m4 7 rfl) rfl
theorem q817 : (Jvm.Cond.laysFinal "WindGas$Wrong" "WindGas$Wrong" "place" "I") ∈ lw_all := lw_g (lw_at lw_m4 14 rfl) rfl
theorem q818 : (Jvm.Cond.soleField "WindGas$Wrong" "place") ∈ lw_all := lw_g (lw_at lw_m4 15 rfl) rfl
theorem q823 : (Jvm.Cond.lays "WindGas$Wrong" "java/lang/Throwable" "depth" "I") ∈ lw_all := lw_g (lw_at lw_m4 20 rfl) rfl
theorem q826 : (Jvm.Cond.superclass "WindGas$Wrong" "java/lang/RuntimeException") ∈ lw_all := lw_g (lw_at lw_m4 23 rfl) rfl
theorem q2129 : (Jvm.Cond.castable "WindGas$Wrong" "java/lang/Object") ∈ lw_tbl := lw_at lw_m9 126 rfl
theorem in_X11 : ∀ w ∈ wsX110, w ∈ lw_all := lw_in wsX110 [770, 772, 774, 776, 778, 823, 817] (by decide +kernel) (by decide +kernel)

/-! WindGas$Row -/
set_option maxRecDepth 100000
def RX12 : String := "WindGas$Row"
def TX12 : u_T := fun k => match k with
  | 0 => ("WindGas$Row", "isAll", "Z", true)
  | _ => ("WindGas$Row", "parts", "Ljava/util/ArrayList;", true)
def tyX12 : Nat → FieldType := fun k => match k with
  | 0 => .boolean
  | _ => .object "java/util/ArrayList"
abbrev wsX120 : List Cond := u_ws RX12 TX12 2
theorem nmX12 : ∀ a, a < 2 → ∀ b, b < 2 → a ≠ b → (TX12 a).2.1 ≠ (TX12 b).2.1 := by decide +kernel
theorem tyX12_ok : ∀ k, k < 2 → parseFieldDescriptor (TX12 k).2.2.1 = some (tyX12 k) := by decide +kernel
abbrev cX12_init : ByteArray := prog_8_method_1_code
def yX12_init : MethodName := ⟨RX12, "<init>", "(ZLWindGas$Cond;)V"⟩
abbrev cX12_holds : ByteArray := prog_8_method_2_code
def yX12_holds : MethodName := ⟨RX12, "holds", "([J)Z"⟩
theorem q114 : (Jvm.Cond.initialized "WindGas$Row") ∈ lw_all := lw_g (lw_at lw_m1 31 rfl) rfl
theorem q477 : (Jvm.Cond.selects "WindGas$Row" ({ cls := "java/lang/Object", name := "getClass", desc := "()Ljava/lang/Class;" } : Jvm.MethodName) ({ cls := "java/lang/Object", name := "getClass", desc := "()Ljava/lang/Class;" } : Jvm.MethodName)) ∈ lw_all := lw_g (lw_at lw_m2 154 rfl) rfl
theorem q936 : (Jvm.Cond.instantiable "WindGas$Row" (2 : Nat)) ∈ lw_all := lw_g (lw_at lw_m4 133 rfl) rfl
theorem q985 : (Jvm.Cond.instanceMethod ({ cls := "WindGas$Row", name := "<init>", desc := "(ZLWindGas$Cond;)V" } : Jvm.MethodName)) ∈ lw_all := lw_g (lw_at lw_m4 182 rfl) rfl
theorem q986 : (Jvm.Cond.code ({ cls := "WindGas$Row", name := "<init>", desc := "(ZLWindGas$Cond;)V" } : Jvm.MethodName) prog_8_method_1_code (3 : Nat) (Option.none : Option Jvm.ClassFile.FieldType)) ∈ lw_all := lw_g (lw_at lw_m4 183 rfl) rfl
theorem q987 : (Jvm.Cond.methodLink "WindGas$Row" (1 : Nat) ({ cls := "java/lang/Object", name := "<init>", desc := "()V" } : Jvm.MethodName)) ∈ lw_all := lw_g (lw_at lw_m4 184 rfl) rfl
theorem q988 : (Jvm.Cond.classLink "WindGas$Row" (7 : Nat) "java/util/ArrayList") ∈ lw_all := lw_g (lw_at lw_m4 185 rfl) rfl
theorem q989 : (Jvm.Cond.methodLink "WindGas$Row" (9 : Nat) ({ cls := "java/util/ArrayList", name := "<init>", desc := "()V" } : Jvm.MethodName)) ∈ lw_all := lw_g (lw_at lw_m4 186 rfl) rfl
theorem q990 : (Jvm.Cond.methodLink "WindGas$Row" (20 : Nat) ({ cls := "java/util/ArrayList", name := "add", desc := "(Ljava/lang/Object;)Z" } : Jvm.MethodName)) ∈ lw_all := lw_g (lw_at lw_m4 187 rfl) rfl
theorem q991 : (Jvm.Cond.fieldLink "WindGas$Row" (16 : Nat) "WindGas$Row" "isAll" "Z") ∈ lw_all := lw_g (lw_at lw_m4 188 rfl) rfl
theorem q992 : (Jvm.Cond.fieldLink "WindGas$Row" (10 : Nat) "WindGas$Row" "parts" "Ljava/util/ArrayList;") ∈ lw_all := lw_g (lw_at lw_m4 189 rfl) rfl
theorem q994 : (Jvm.Cond.laysFinal "WindGas$Row" "WindGas$Row" "isAll" "Z") ∈ lw_all := lw_g (lw_at lw_m4 191 rfl) rfl
theorem q995 : (Jvm.Cond.soleField "WindGas$Row" "isAll") ∈ lw_all := lw_g (lw_at lw_m4 192 rfl) rfl
theorem q996 : (Jvm.Cond.laysFinal "WindGas$Row" "WindGas$Row" "parts" "Ljava/util/ArrayList;") ∈ lw_all := lw_g (lw_at lw_m4 193 rfl) rfl
theorem q997 : (Jvm.Cond.soleField "WindGas$Row" "parts") ∈ lw_all := lw_g (lw_at lw_m4 194 rfl) rfl
theorem q998 : (Jvm.Cond.superclass "WindGas$Row" "java/lang/Object") ∈ lw_all := lw_g (lw_at lw_m4 195 rfl) rfl
theorem q1186 : (Jvm.Cond.castable "WindGas$Row" "WindGas$Cond") ∈ lw_tbl := lw_at lw_m5 143 rfl
theorem q1187 : (Jvm.Cond.selects "WindGas$Row" ({ cls := "WindGas$Cond", name := "holds", desc := "([J)Z" } : Jvm.MethodName) ({ cls := "WindGas$Row", name := "holds", desc := "([J)Z" } : Jvm.MethodName)) ∈ lw_all := lw_g (lw_at lw_m5 144 rfl) rfl
theorem q1188 : (Jvm.Cond.unhidden "WindGas$Row" "holds" "([J)Z") ∈ lw_tbl := lw_at lw_m5 145 rfl
theorem q1189 : (Jvm.Cond.instanceMethod ({ cls := "WindGas$Row", name := "holds", desc := "([J)Z" } : Jvm.MethodName)) ∈ lw_all := lw_g (lw_at lw_m5 146 rfl) rfl
theorem q1190 : (Jvm.Cond.publicMethod ({ cls := "WindGas$Row", name := "holds", desc := "([J)Z" } : Jvm.MethodName)) ∈ lw_tbl := lw_at lw_m5 147 rfl
theorem q1191 : (Jvm.Cond.code ({ cls := "WindGas$Row", name := "holds", desc := "([J)Z" } : Jvm.MethodName) prog_8_method_2_code (3 : Nat) (Option.some Jvm.ClassFile.FieldType.boolean)) ∈ lw_all := lw_g (lw_at lw_m5 148 rfl) rfl
theorem q1192 : (Jvm.Cond.methodLink "WindGas$Row" (24 : Nat) ({ cls := "java/util/ArrayList", name := "size", desc := "()I" } : Jvm.MethodName)) ∈ lw_all := lw_g (lw_at lw_m5 149 rfl) rfl
theorem q1193 : (Jvm.Cond.methodLink "WindGas$Row" (28 : Nat) ({ cls := "java/util/ArrayList", name := "get", desc := "(I)Ljava/lang/Object;" } : Jvm.MethodName)) ∈ lw_all := lw_g (lw_at lw_m5 150 rfl) rfl
theorem q1194 : (Jvm.Cond.classLink "WindGas$Row" (32 : Nat) "WindGas$Cond") ∈ lw_all := lw_g (lw_at lw_m5 151 rfl) rfl
theorem q1195 : (Jvm.Cond.interfaceEntry "WindGas$Row" (34 : Nat)) ∈ lw_tbl := lw_at lw_m5 152 rfl
theorem q1196 : (Jvm.Cond.methodLink "WindGas$Row" (34 : Nat) ({ cls := "WindGas$Cond", name := "holds", desc := "([J)Z" } : Jvm.MethodName)) ∈ lw_all := lw_g (lw_at lw_m5 153 rfl) rfl
theorem q2131 : (Jvm.Cond.castable "WindGas$Row" "java/lang/Object") ∈ lw_tbl := lw_at lw_m9 128 rfl
theorem in_X12 : ∀ w ∈ wsX120, w ∈ lw_all := lw_in wsX120 [994, 996] (by decide +kernel) (by decide +kernel)

/-! WindGas$Not -/
set_option maxRecDepth 100000
def RX13 : String := "WindGas$Not"
def TX13 : u_T := fun k => match k with
  | _ => ("WindGas$Not", "part", "LWindGas$Cond;", true)
def tyX13 : Nat → FieldType := fun k => match k with
  | _ => .object "WindGas$Cond"
abbrev wsX130 : List Cond := u_ws RX13 TX13 1
theorem nmX13 : ∀ a, a < 1 → ∀ b, b < 1 → a ≠ b → (TX13 a).2.1 ≠ (TX13 b).2.1 := by decide +kernel
theorem tyX13_ok : ∀ k, k < 1 → parseFieldDescriptor (TX13 k).2.2.1 = some (tyX13 k) := by decide +kernel
abbrev cX13_init : ByteArray := prog_5_method_1_code
def yX13_init : MethodName := ⟨RX13, "<init>", "(LWindGas$Cond;)V"⟩
abbrev cX13_holds : ByteArray := prog_5_method_2_code
def yX13_holds : MethodName := ⟨RX13, "holds", "([J)Z"⟩
theorem q115 : (Jvm.Cond.initialized "WindGas$Not") ∈ lw_all := lw_g (lw_at lw_m1 32 rfl) rfl
theorem q474 : (Jvm.Cond.selects "WindGas$Not" ({ cls := "java/lang/Object", name := "getClass", desc := "()Ljava/lang/Class;" } : Jvm.MethodName) ({ cls := "java/lang/Object", name := "getClass", desc := "()Ljava/lang/Class;" } : Jvm.MethodName)) ∈ lw_all := lw_g (lw_at lw_m2 151 rfl) rfl
theorem q951 : (Jvm.Cond.instantiable "WindGas$Not" (1 : Nat)) ∈ lw_all := lw_g (lw_at lw_m4 148 rfl) rfl
theorem q953 : (Jvm.Cond.instanceMethod ({ cls := "WindGas$Not", name := "<init>", desc := "(LWindGas$Cond;)V" } : Jvm.MethodName)) ∈ lw_all := lw_g (lw_at lw_m4 150 rfl) rfl
theorem q954 : (Jvm.Cond.code ({ cls := "WindGas$Not", name := "<init>", desc := "(LWindGas$Cond;)V" } : Jvm.MethodName) prog_5_method_1_code (2 : Nat) (Option.none : Option Jvm.ClassFile.FieldType)) ∈ lw_all := lw_g (lw_at lw_m4 151 rfl) rfl
theorem q955 : (Jvm.Cond.methodLink "WindGas$Not" (1 : Nat) ({ cls := "java/lang/Object", name := "<init>", desc := "()V" } : Jvm.MethodName)) ∈ lw_all := lw_g (lw_at lw_m4 152 rfl) rfl
theorem q956 : (Jvm.Cond.fieldLink "WindGas$Not" (7 : Nat) "WindGas$Not" "part" "LWindGas$Cond;") ∈ lw_all := lw_g (lw_at lw_m4 153 rfl) rfl
theorem q957 : (Jvm.Cond.laysFinal "WindGas$Not" "WindGas$Not" "part" "LWindGas$Cond;") ∈ lw_all := lw_g (lw_at lw_m4 154 rfl) rfl
theorem q958 : (Jvm.Cond.soleField "WindGas$Not" "part") ∈ lw_all := lw_g (lw_at lw_m4 155 rfl) rfl
theorem q959 : (Jvm.Cond.superclass "WindGas$Not" "java/lang/Object") ∈ lw_all := lw_g (lw_at lw_m4 156 rfl) rfl
theorem q1178 : (Jvm.Cond.castable "WindGas$Not" "WindGas$Cond") ∈ lw_tbl := lw_at lw_m5 135 rfl
theorem q1179 : (Jvm.Cond.selects "WindGas$Not" ({ cls := "WindGas$Cond", name := "holds", desc := "([J)Z" } : Jvm.MethodName) ({ cls := "WindGas$Not", name := "holds", desc := "([J)Z" } : Jvm.MethodName)) ∈ lw_all := lw_g (lw_at lw_m5 136 rfl) rfl
theorem q1180 : (Jvm.Cond.unhidden "WindGas$Not" "holds" "([J)Z") ∈ lw_tbl := lw_at lw_m5 137 rfl
theorem q1181 : (Jvm.Cond.instanceMethod ({ cls := "WindGas$Not", name := "holds", desc := "([J)Z" } : Jvm.MethodName)) ∈ lw_all := lw_g (lw_at lw_m5 138 rfl) rfl
theorem q1182 : (Jvm.Cond.publicMethod ({ cls := "WindGas$Not", name := "holds", desc := "([J)Z" } : Jvm.MethodName)) ∈ lw_tbl := lw_at lw_m5 139 rfl
theorem q1183 : (Jvm.Cond.code ({ cls := "WindGas$Not", name := "holds", desc := "([J)Z" } : Jvm.MethodName) prog_5_method_2_code (2 : Nat) (Option.some Jvm.ClassFile.FieldType.boolean)) ∈ lw_all := lw_g (lw_at lw_m5 140 rfl) rfl
theorem q1184 : (Jvm.Cond.interfaceEntry "WindGas$Not" (13 : Nat)) ∈ lw_tbl := lw_at lw_m5 141 rfl
theorem q1185 : (Jvm.Cond.methodLink "WindGas$Not" (13 : Nat) ({ cls := "WindGas$Cond", name := "holds", desc := "([J)Z" } : Jvm.MethodName)) ∈ lw_all := lw_g (lw_at lw_m5 142 rfl) rfl
theorem q2132 : (Jvm.Cond.castable "WindGas$Not" "java/lang/Object") ∈ lw_tbl := lw_at lw_m9 129 rfl
theorem in_X13 : ∀ w ∈ wsX130, w ∈ lw_all := lw_in wsX130 [957] (by decide +kernel) (by decide +kernel)

/-! WindGas$Test -/
set_option maxRecDepth 100000
def RX14 : String := "WindGas$Test"
def TX14 : u_T := fun k => match k with
  | 0 => ("WindGas$Test", "word", "I", true)
  | 1 => ("WindGas$Test", "sign", "I", true)
  | _ => ("WindGas$Test", "number", "I", true)
def tyX14 : Nat → FieldType := fun k => match k with
  | 0 => .int
  | 1 => .int
  | _ => .int
abbrev wsX140 : List Cond := u_ws RX14 TX14 3
theorem nmX14 : ∀ a, a < 3 → ∀ b, b < 3 → a ≠ b → (TX14 a).2.1 ≠ (TX14 b).2.1 := by decide +kernel
theorem tyX14_ok : ∀ k, k < 3 → parseFieldDescriptor (TX14 k).2.2.1 = some (tyX14 k) := by decide +kernel
abbrev cX14_init : ByteArray := prog_15_method_1_code
def yX14_init : MethodName := ⟨RX14, "<init>", "(III)V"⟩
abbrev cX14_holds : ByteArray := prog_15_method_2_code
def yX14_holds : MethodName := ⟨RX14, "holds", "([J)Z"⟩
theorem q116 : (Jvm.Cond.initialized "WindGas$Test") ∈ lw_all := lw_g (lw_at lw_m1 33 rfl) rfl
theorem q484 : (Jvm.Cond.selects "WindGas$Test" ({ cls := "java/lang/Object", name := "getClass", desc := "()Ljava/lang/Class;" } : Jvm.MethodName) ({ cls := "java/lang/Object", name := "getClass", desc := "()Ljava/lang/Class;" } : Jvm.MethodName)) ∈ lw_all := lw_g (lw_at lw_m2 161 rfl) rfl
theorem q969 : (Jvm.Cond.instantiable "WindGas$Test" (3 : Nat)) ∈ lw_all := lw_g (lw_at lw_m4 166 rfl) rfl
theorem q971 : (Jvm.Cond.instanceMethod ({ cls := "WindGas$Test", name := "<init>", desc := "(III)V" } : Jvm.MethodName)) ∈ lw_all := lw_g (lw_at lw_m4 168 rfl) rfl
theorem q972 : (Jvm.Cond.code ({ cls := "WindGas$Test", name := "<init>", desc := "(III)V" } : Jvm.MethodName) prog_15_method_1_code (4 : Nat) (Option.none : Option Jvm.ClassFile.FieldType)) ∈ lw_all := lw_g (lw_at lw_m4 169 rfl) rfl
theorem q973 : (Jvm.Cond.methodLink "WindGas$Test" (1 : Nat) ({ cls := "java/lang/Object", name := "<init>", desc := "()V" } : Jvm.MethodName)) ∈ lw_all := lw_g (lw_at lw_m4 170 rfl) rfl
theorem q974 : (Jvm.Cond.fieldLink "WindGas$Test" (7 : Nat) "WindGas$Test" "word" "I") ∈ lw_all := lw_g (lw_at lw_m4 171 rfl) rfl
theorem q975 : (Jvm.Cond.fieldLink "WindGas$Test" (13 : Nat) "WindGas$Test" "sign" "I") ∈ lw_all := lw_g (lw_at lw_m4 172 rfl) rfl
theorem q976 : (Jvm.Cond.fieldLink "WindGas$Test" (16 : Nat) "WindGas$Test" "number" "I") ∈ lw_all := lw_g (lw_at lw_m4 173 rfl) rfl
theorem q977 : (Jvm.Cond.laysFinal "WindGas$Test" "WindGas$Test" "word" "I") ∈ lw_all := lw_g (lw_at lw_m4 174 rfl) rfl
theorem q978 : (Jvm.Cond.soleField "WindGas$Test" "word") ∈ lw_all := lw_g (lw_at lw_m4 175 rfl) rfl
theorem q979 : (Jvm.Cond.laysFinal "WindGas$Test" "WindGas$Test" "sign" "I") ∈ lw_all := lw_g (lw_at lw_m4 176 rfl) rfl
theorem q980 : (Jvm.Cond.soleField "WindGas$Test" "sign") ∈ lw_all := lw_g (lw_at lw_m4 177 rfl) rfl
theorem q981 : (Jvm.Cond.laysFinal "WindGas$Test" "WindGas$Test" "number" "I") ∈ lw_all := lw_g (lw_at lw_m4 178 rfl) rfl
theorem q982 : (Jvm.Cond.soleField "WindGas$Test" "number") ∈ lw_all := lw_g (lw_at lw_m4 179 rfl) rfl
theorem q983 : (Jvm.Cond.superclass "WindGas$Test" "java/lang/Object") ∈ lw_all := lw_g (lw_at lw_m4 180 rfl) rfl
theorem q1197 : (Jvm.Cond.castable "WindGas$Test" "WindGas$Cond") ∈ lw_tbl := lw_at lw_m5 154 rfl
theorem q1198 : (Jvm.Cond.selects "WindGas$Test" ({ cls := "WindGas$Cond", name := "holds", desc := "([J)Z" } : Jvm.MethodName) ({ cls := "WindGas$Test", name := "holds", desc := "([J)Z" } : Jvm.MethodName)) ∈ lw_all := lw_g (lw_at lw_m5 155 rfl) rfl
theorem q1199 : (Jvm.Cond.unhidden "WindGas$Test" "holds" "([J)Z") ∈ lw_tbl := lw_at lw_m5 156 rfl
theorem q1200 : (Jvm.Cond.instanceMethod ({ cls := "WindGas$Test", name := "holds", desc := "([J)Z" } : Jvm.MethodName)) ∈ lw_all := lw_g (lw_at lw_m5 157 rfl) rfl
theorem q1201 : (Jvm.Cond.publicMethod ({ cls := "WindGas$Test", name := "holds", desc := "([J)Z" } : Jvm.MethodName)) ∈ lw_tbl := lw_at lw_m5 158 rfl
theorem q1202 : (Jvm.Cond.code ({ cls := "WindGas$Test", name := "holds", desc := "([J)Z" } : Jvm.MethodName) prog_15_method_2_code (2 : Nat) (Option.some Jvm.ClassFile.FieldType.boolean)) ∈ lw_all := lw_g (lw_at lw_m5 159 rfl) rfl
theorem q2133 : (Jvm.Cond.castable "WindGas$Test" "java/lang/Object") ∈ lw_tbl := lw_at lw_m9 130 rfl
theorem in_X14 : ∀ w ∈ wsX140, w ∈ lw_all := lw_in wsX140 [977, 979, 981] (by decide +kernel) (by decide +kernel)

/-! WindGas$Apart -/
set_option maxRecDepth 100000
def RX15 : String := "WindGas$Apart"
def TX15 : u_T := fun k => match k with
  | 0 => ("WindGas$Apart", "statement", "I", true)
  | 1 => ("WindGas$Apart", "a", "I", true)
  | 2 => ("WindGas$Apart", "b", "I", true)
  | _ => ("WindGas$Apart", "least", "I", true)
def tyX15 : Nat → FieldType := fun k => match k with
  | 0 => .int
  | 1 => .int
  | 2 => .int
  | _ => .int
abbrev wsX150 : List Cond := u_ws RX15 TX15 4
theorem nmX15 : ∀ a, a < 4 → ∀ b, b < 4 → a ≠ b → (TX15 a).2.1 ≠ (TX15 b).2.1 := by decide +kernel
theorem tyX15_ok : ∀ k, k < 4 → parseFieldDescriptor (TX15 k).2.2.1 = some (tyX15 k) := by decide +kernel
abbrev cX15_init : ByteArray := prog_2_method_1_code
def yX15_init : MethodName := ⟨RX15, "<init>", "(IIII)V"⟩
abbrev cX15_a : ByteArray := prog_2_method_6_code
def yX15_a : MethodName := ⟨RX15, "a", "()I"⟩
abbrev cX15_b : ByteArray := prog_2_method_7_code
def yX15_b : MethodName := ⟨RX15, "b", "()I"⟩
abbrev cX15_least : ByteArray := prog_2_method_8_code
def yX15_least : MethodName := ⟨RX15, "least", "()I"⟩
abbrev cX15_statement : ByteArray := prog_2_method_5_code
def yX15_statement : MethodName := ⟨RX15, "statement", "()I"⟩
theorem q117 : (Jvm.Cond.initialized "WindGas$Apart") ∈ lw_all := lw_g (lw_at lw_m1 34 rfl) rfl
theorem q472 : (Jvm.Cond.selects "WindGas$Apart" ({ cls := "java/lang/Object", name := "getClass", desc := "()Ljava/lang/Class;" } : Jvm.MethodName) ({ cls := "java/lang/Object", name := "getClass", desc := "()Ljava/lang/Class;" } : Jvm.MethodName)) ∈ lw_all := lw_g (lw_at lw_m2 149 rfl) rfl
theorem q1012 : (Jvm.Cond.instantiable "WindGas$Apart" (4 : Nat)) ∈ lw_all := lw_g (lw_at lw_m4 209 rfl) rfl
theorem q1014 : (Jvm.Cond.instanceMethod ({ cls := "WindGas$Apart", name := "<init>", desc := "(IIII)V" } : Jvm.MethodName)) ∈ lw_all := lw_g (lw_at lw_m4 211 rfl) rfl
theorem q1015 : (Jvm.Cond.code ({ cls := "WindGas$Apart", name := "<init>", desc := "(IIII)V" } : Jvm.MethodName) prog_2_method_1_code (5 : Nat) (Option.none : Option Jvm.ClassFile.FieldType)) ∈ lw_all := lw_g (lw_at lw_m4 212 rfl) rfl
theorem q1016 : (Jvm.Cond.methodLink "WindGas$Apart" (1 : Nat) ({ cls := "java/lang/Record", name := "<init>", desc := "()V" } : Jvm.MethodName)) ∈ lw_all := lw_g (lw_at lw_m4 213 rfl) rfl
theorem q1017 : (Jvm.Cond.fieldLink "WindGas$Apart" (7 : Nat) "WindGas$Apart" "statement" "I") ∈ lw_all := lw_g (lw_at lw_m4 214 rfl) rfl
theorem q1018 : (Jvm.Cond.fieldLink "WindGas$Apart" (13 : Nat) "WindGas$Apart" "a" "I") ∈ lw_all := lw_g (lw_at lw_m4 215 rfl) rfl
theorem q1019 : (Jvm.Cond.fieldLink "WindGas$Apart" (16 : Nat) "WindGas$Apart" "b" "I") ∈ lw_all := lw_g (lw_at lw_m4 216 rfl) rfl
theorem q1020 : (Jvm.Cond.fieldLink "WindGas$Apart" (19 : Nat) "WindGas$Apart" "least" "I") ∈ lw_all := lw_g (lw_at lw_m4 217 rfl) rfl
theorem q1021 : (Jvm.Cond.laysFinal "WindGas$Apart" "WindGas$Apart" "statement" "I") ∈ lw_all := lw_g (lw_at lw_m4 218 rfl) rfl
theorem q1022 : (Jvm.Cond.soleField "WindGas$Apart" "statement") ∈ lw_all := lw_g (lw_at lw_m4 219 rfl) rfl
theorem q1023 : (Jvm.Cond.laysFinal "WindGas$Apart" "WindGas$Apart" "a" "I") ∈ lw_all := lw_g (lw_at lw_m4 220 rfl) rfl
theorem q1024 : (Jvm.Cond.soleField "WindGas$Apart" "a") ∈ lw_all := lw_g (lw_at lw_m4 221 rfl) rfl
theorem q1025 : (Jvm.Cond.laysFinal "WindGas$Apart" "WindGas$Apart" "b" "I") ∈ lw_all := lw_g (lw_at lw_m4 222 rfl) rfl
theorem q1026 : (Jvm.Cond.soleField "WindGas$Apart" "b") ∈ lw_all := lw_g (lw_at lw_m4 223 rfl) rfl
theorem q1027 : (Jvm.Cond.laysFinal "WindGas$Apart" "WindGas$Apart" "least" "I") ∈ lw_all := lw_g (lw_at lw_m4 224 rfl) rfl
theorem q1028 : (Jvm.Cond.soleField "WindGas$Apart" "least") ∈ lw_all := lw_g (lw_at lw_m4 225 rfl) rfl
theorem q1029 : (Jvm.Cond.superclass "WindGas$Apart" "java/lang/Record") ∈ lw_all := lw_g (lw_at lw_m4 226 rfl) rfl
theorem q1462 : (Jvm.Cond.instanceMethod ({ cls := "WindGas$Apart", name := "a", desc := "()I" } : Jvm.MethodName)) ∈ lw_all := lw_g (lw_at lw_m6 179 rfl) rfl
theorem q1463 : (Jvm.Cond.selects "WindGas$Apart" ({ cls := "WindGas$Apart", name := "a", desc := "()I" } : Jvm.MethodName) ({ cls := "WindGas$Apart", name := "a", desc := "()I" } : Jvm.MethodName)) ∈ lw_all := lw_g (lw_at lw_m6 180 rfl) rfl
theorem q1464 : (Jvm.Cond.code ({ cls := "WindGas$Apart", name := "a", desc := "()I" } : Jvm.MethodName) prog_2_method_6_code (1 : Nat) (Option.some Jvm.ClassFile.FieldType.int)) ∈ lw_all := lw_g (lw_at lw_m6 181 rfl) rfl
theorem q1466 : (Jvm.Cond.instanceMethod ({ cls := "WindGas$Apart", name := "b", desc := "()I" } : Jvm.MethodName)) ∈ lw_all := lw_g (lw_at lw_m6 183 rfl) rfl
theorem q1467 : (Jvm.Cond.selects "WindGas$Apart" ({ cls := "WindGas$Apart", name := "b", desc := "()I" } : Jvm.MethodName) ({ cls := "WindGas$Apart", name := "b", desc := "()I" } : Jvm.MethodName)) ∈ lw_all := lw_g (lw_at lw_m6 184 rfl) rfl
theorem q1468 : (Jvm.Cond.code ({ cls := "WindGas$Apart", name := "b", desc := "()I" } : Jvm.MethodName) prog_2_method_7_code (1 : Nat) (Option.some Jvm.ClassFile.FieldType.int)) ∈ lw_all := lw_g (lw_at lw_m6 185 rfl) rfl
theorem q1478 : (Jvm.Cond.instanceMethod ({ cls := "WindGas$Apart", name := "least", desc := "()I" } : Jvm.MethodName)) ∈ lw_all := lw_g (lw_at lw_m6 195 rfl) rfl
theorem q1479 : (Jvm.Cond.selects "WindGas$Apart" ({ cls := "WindGas$Apart", name := "least", desc := "()I" } : Jvm.MethodName) ({ cls := "WindGas$Apart", name := "least", desc := "()I" } : Jvm.MethodName)) ∈ lw_all := lw_g (lw_at lw_m6 196 rfl) rfl
theorem q1480 : (Jvm.Cond.code ({ cls := "WindGas$Apart", name := "least", desc := "()I" } : Jvm.MethodName) prog_2_method_8_code (1 : Nat) (Option.some Jvm.ClassFile.FieldType.int)) ∈ lw_all := lw_g (lw_at lw_m6 197 rfl) rfl
theorem q1482 : (Jvm.Cond.instanceMethod ({ cls := "WindGas$Apart", name := "statement", desc := "()I" } : Jvm.MethodName)) ∈ lw_all := lw_g (lw_at lw_m6 199 rfl) rfl
theorem q1483 : (Jvm.Cond.selects "WindGas$Apart" ({ cls := "WindGas$Apart", name := "statement", desc := "()I" } : Jvm.MethodName) ({ cls := "WindGas$Apart", name := "statement", desc := "()I" } : Jvm.MethodName)) ∈ lw_all := lw_g (lw_at lw_m6 200 rfl) rfl
theorem q1484 : (Jvm.Cond.code ({ cls := "WindGas$Apart", name := "statement", desc := "()I" } : Jvm.MethodName) prog_2_method_5_code (1 : Nat) (Option.some Jvm.ClassFile.FieldType.int)) ∈ lw_all := lw_g (lw_at lw_m6 201 rfl) rfl
theorem q2134 : (Jvm.Cond.castable "WindGas$Apart" "java/lang/Object") ∈ lw_tbl := lw_at lw_m9 131 rfl
theorem in_X15 : ∀ w ∈ wsX150, w ∈ lw_all := lw_in wsX150 [1021, 1023, 1025, 1027] (by decide +kernel) (by decide +kernel)

/-! WindGas$Place -/
set_option maxRecDepth 100000
def RX16 : String := "WindGas$Place"
def TX16 : u_T := fun k => match k with
  | 0 => ("WindGas$Place", "kind", "I", true)
  | 1 => ("WindGas$Place", "x", "I", true)
  | _ => ("WindGas$Place", "y", "I", true)
def tyX16 : Nat → FieldType := fun k => match k with
  | 0 => .int
  | 1 => .int
  | _ => .int
abbrev wsX160 : List Cond := u_ws RX16 TX16 3
theorem nmX16 : ∀ a, a < 3 → ∀ b, b < 3 → a ≠ b → (TX16 a).2.1 ≠ (TX16 b).2.1 := by decide +kernel
theorem tyX16_ok : ∀ k, k < 3 → parseFieldDescriptor (TX16 k).2.2.1 = some (tyX16 k) := by decide +kernel
abbrev cX16_init : ByteArray := prog_7_method_1_code
def yX16_init : MethodName := ⟨RX16, "<init>", "(III)V"⟩
abbrev cX16_kind : ByteArray := prog_7_method_6_code
def yX16_kind : MethodName := ⟨RX16, "kind", "()I"⟩
abbrev cX16_far : ByteArray := prog_7_method_2_code
def yX16_far : MethodName := ⟨RX16, "far", "(LWindGas$Place;)I"⟩
theorem q118 : (Jvm.Cond.initialized "WindGas$Place") ∈ lw_all := lw_g (lw_at lw_m1 35 rfl) rfl
theorem q476 : (Jvm.Cond.selects "WindGas$Place" ({ cls := "java/lang/Object", name := "getClass", desc := "()Ljava/lang/Class;" } : Jvm.MethodName) ({ cls := "java/lang/Object", name := "getClass", desc := "()Ljava/lang/Class;" } : Jvm.MethodName)) ∈ lw_all := lw_g (lw_at lw_m2 153 rfl) rfl
theorem q1435 : (Jvm.Cond.instantiable "WindGas$Place" (3 : Nat)) ∈ lw_all := lw_g (lw_at lw_m6 152 rfl) rfl
theorem q1437 : (Jvm.Cond.instanceMethod ({ cls := "WindGas$Place", name := "<init>", desc := "(III)V" } : Jvm.MethodName)) ∈ lw_all := lw_g (lw_at lw_m6 154 rfl) rfl
theorem q1438 : (Jvm.Cond.code ({ cls := "WindGas$Place", name := "<init>", desc := "(III)V" } : Jvm.MethodName) prog_7_method_1_code (4 : Nat) (Option.none : Option Jvm.ClassFile.FieldType)) ∈ lw_all := lw_g (lw_at lw_m6 155 rfl) rfl
theorem q1439 : (Jvm.Cond.methodLink "WindGas$Place" (1 : Nat) ({ cls := "java/lang/Record", name := "<init>", desc := "()V" } : Jvm.MethodName)) ∈ lw_all := lw_g (lw_at lw_m6 156 rfl) rfl
theorem q1440 : (Jvm.Cond.fieldLink "WindGas$Place" (7 : Nat) "WindGas$Place" "kind" "I") ∈ lw_all := lw_g (lw_at lw_m6 157 rfl) rfl
theorem q1441 : (Jvm.Cond.fieldLink "WindGas$Place" (13 : Nat) "WindGas$Place" "x" "I") ∈ lw_all := lw_g (lw_at lw_m6 158 rfl) rfl
theorem q1442 : (Jvm.Cond.fieldLink "WindGas$Place" (16 : Nat) "WindGas$Place" "y" "I") ∈ lw_all := lw_g (lw_at lw_m6 159 rfl) rfl
theorem q1443 : (Jvm.Cond.laysFinal "WindGas$Place" "WindGas$Place" "kind" "I") ∈ lw_all := lw_g (lw_at lw_m6 160 rfl) rfl
theorem q1444 : (Jvm.Cond.soleField "WindGas$Place" "kind") ∈ lw_all := lw_g (lw_at lw_m6 161 rfl) rfl
theorem q1445 : (Jvm.Cond.laysFinal "WindGas$Place" "WindGas$Place" "x" "I") ∈ lw_all := lw_g (lw_at lw_m6 162 rfl) rfl
theorem q1446 : (Jvm.Cond.soleField "WindGas$Place" "x") ∈ lw_all := lw_g (lw_at lw_m6 163 rfl) rfl
theorem q1447 : (Jvm.Cond.laysFinal "WindGas$Place" "WindGas$Place" "y" "I") ∈ lw_all := lw_g (lw_at lw_m6 164 rfl) rfl
theorem q1448 : (Jvm.Cond.soleField "WindGas$Place" "y") ∈ lw_all := lw_g (lw_at lw_m6 165 rfl) rfl
theorem q1449 : (Jvm.Cond.superclass "WindGas$Place" "java/lang/Record") ∈ lw_all := lw_g (lw_at lw_m6 166 rfl) rfl
theorem q1458 : (Jvm.Cond.instanceMethod ({ cls := "WindGas$Place", name := "kind", desc := "()I" } : Jvm.MethodName)) ∈ lw_all := lw_g (lw_at lw_m6 175 rfl) rfl
theorem q1459 : (Jvm.Cond.selects "WindGas$Place" ({ cls := "WindGas$Place", name := "kind", desc := "()I" } : Jvm.MethodName) ({ cls := "WindGas$Place", name := "kind", desc := "()I" } : Jvm.MethodName)) ∈ lw_all := lw_g (lw_at lw_m6 176 rfl) rfl
theorem q1460 : (Jvm.Cond.code ({ cls := "WindGas$Place", name := "kind", desc := "()I" } : Jvm.MethodName) prog_7_method_6_code (1 : Nat) (Option.some Jvm.ClassFile.FieldType.int)) ∈ lw_all := lw_g (lw_at lw_m6 177 rfl) rfl
theorem q1470 : (Jvm.Cond.instanceMethod ({ cls := "WindGas$Place", name := "far", desc := "(LWindGas$Place;)I" } : Jvm.MethodName)) ∈ lw_all := lw_g (lw_at lw_m6 187 rfl) rfl
theorem q1471 : (Jvm.Cond.selects "WindGas$Place" ({ cls := "WindGas$Place", name := "far", desc := "(LWindGas$Place;)I" } : Jvm.MethodName) ({ cls := "WindGas$Place", name := "far", desc := "(LWindGas$Place;)I" } : Jvm.MethodName)) ∈ lw_all := lw_g (lw_at lw_m6 188 rfl) rfl
theorem q1472 : (Jvm.Cond.code ({ cls := "WindGas$Place", name := "far", desc := "(LWindGas$Place;)I" } : Jvm.MethodName) prog_7_method_2_code (2 : Nat) (Option.some Jvm.ClassFile.FieldType.int)) ∈ lw_all := lw_g (lw_at lw_m6 189 rfl) rfl
theorem q1473 : (Jvm.Cond.methodLink "WindGas$Place" (19 : Nat) ({ cls := "java/lang/Math", name := "abs", desc := "(I)I" } : Jvm.MethodName)) ∈ lw_all := lw_g (lw_at lw_m6 190 rfl) rfl
theorem q1476 : (Jvm.Cond.methodLink "WindGas$Place" (25 : Nat) ({ cls := "java/lang/Math", name := "max", desc := "(II)I" } : Jvm.MethodName)) ∈ lw_all := lw_g (lw_at lw_m6 193 rfl) rfl
theorem q2135 : (Jvm.Cond.castable "WindGas$Place" "java/lang/Object") ∈ lw_tbl := lw_at lw_m9 132 rfl
theorem in_X16 : ∀ w ∈ wsX160, w ∈ lw_all := lw_in wsX160 [1443, 1445, 1447] (by decide +kernel) (by decide +kernel)

/-! java/util/AbstractCollection -/
set_option maxRecDepth 100000
def RJ0 : String := "java/util/AbstractCollection"
abbrev cJ0_init : ByteArray := prog_41_method_1_code
def yJ0_init : MethodName := ⟨RJ0, "<init>", "()V"⟩
theorem q86 : (Jvm.Cond.initialized "java/util/AbstractCollection") ∈ lw_all := lw_g (lw_at lw_m1 3 rfl) rfl
theorem q143 : (Jvm.Cond.instanceMethod ({ cls := "java/util/AbstractCollection", name := "<init>", desc := "()V" } : Jvm.MethodName)) ∈ lw_all := lw_g (lw_at lw_m1 60 rfl) rfl
theorem q144 : (Jvm.Cond.code ({ cls := "java/util/AbstractCollection", name := "<init>", desc := "()V" } : Jvm.MethodName) prog_41_method_1_code (1 : Nat) (Option.none : Option Jvm.ClassFile.FieldType)) ∈ lw_all := lw_g (lw_at lw_m1 61 rfl) rfl
theorem q145 : (Jvm.Cond.methodLink "java/util/AbstractCollection" (1 : Nat) ({ cls := "java/lang/Object", name := "<init>", desc := "()V" } : Jvm.MethodName)) ∈ lw_all := lw_g (lw_at lw_m1 62 rfl) rfl

/-! java/util/AbstractList -/
set_option maxRecDepth 100000
def RJ1 : String := "java/util/AbstractList"
abbrev cJ1_init : ByteArray := prog_42_method_1_code
def yJ1_init : MethodName := ⟨RJ1, "<init>", "()V"⟩
theorem q87 : (Jvm.Cond.initialized "java/util/AbstractList") ∈ lw_all := lw_g (lw_at lw_m1 4 rfl) rfl
theorem q140 : (Jvm.Cond.instanceMethod ({ cls := "java/util/AbstractList", name := "<init>", desc := "()V" } : Jvm.MethodName)) ∈ lw_all := lw_g (lw_at lw_m1 57 rfl) rfl
theorem q141 : (Jvm.Cond.code ({ cls := "java/util/AbstractList", name := "<init>", desc := "()V" } : Jvm.MethodName) prog_42_method_1_code (1 : Nat) (Option.none : Option Jvm.ClassFile.FieldType)) ∈ lw_all := lw_g (lw_at lw_m1 58 rfl) rfl
theorem q142 : (Jvm.Cond.methodLink "java/util/AbstractList" (1 : Nat) ({ cls := "java/util/AbstractCollection", name := "<init>", desc := "()V" } : Jvm.MethodName)) ∈ lw_all := lw_g (lw_at lw_m1 59 rfl) rfl
theorem q150 : (Jvm.Cond.fieldLink "java/util/AbstractList" (7 : Nat) "java/util/AbstractList" "modCount" "I") ∈ lw_all := lw_g (lw_at lw_m1 67 rfl) rfl
theorem q158 : (Jvm.Cond.soleField "java/util/AbstractList" "modCount") ∈ lw_all := lw_g (lw_at lw_m1 75 rfl) rfl

/-! java/util/ArrayList -/
set_option maxRecDepth 100000
def RJ2 : String := "java/util/ArrayList"
def TJ2 : u_T := fun k => match k with
  | 0 => ("java/util/AbstractList", "modCount", "I", false)
  | 1 => ("java/util/ArrayList", "elementData", "[Ljava/lang/Object;", false)
  | _ => ("java/util/ArrayList", "size", "I", false)
def tyJ2 : Nat → FieldType := fun k => match k with
  | 0 => .int
  | 1 => .array (.object "java/lang/Object")
  | _ => .int
abbrev wsJ20 : List Cond := u_ws RJ2 TJ2 3
theorem nmJ2 : ∀ a, a < 3 → ∀ b, b < 3 → a ≠ b → (TJ2 a).2.1 ≠ (TJ2 b).2.1 := by decide +kernel
theorem tyJ2_ok : ∀ k, k < 3 → parseFieldDescriptor (TJ2 k).2.2.1 = some (tyJ2 k) := by decide +kernel
abbrev cJ2_init : ByteArray := prog_43_method_2_code
def yJ2_init : MethodName := ⟨RJ2, "<init>", "()V"⟩
abbrev cJ2_size : ByteArray := prog_43_method_8_code
def yJ2_size : MethodName := ⟨RJ2, "size", "()I"⟩
abbrev cJ2_add : ByteArray := prog_43_method_25_code
def yJ2_add : MethodName := ⟨RJ2, "add", "(Ljava/lang/Object;)Z"⟩
abbrev cJ2_add_2 : ByteArray := prog_43_method_24_code
def yJ2_add_2 : MethodName := ⟨RJ2, "add", "(Ljava/lang/Object;[Ljava/lang/Object;I)V"⟩
abbrev cJ2_grow : ByteArray := prog_43_method_7_code
def yJ2_grow : MethodName := ⟨RJ2, "grow", "()[Ljava/lang/Object;"⟩
abbrev cJ2_grow_2 : ByteArray := prog_43_method_6_code
def yJ2_grow_2 : MethodName := ⟨RJ2, "grow", "(I)[Ljava/lang/Object;"⟩
abbrev cJ2_get : ByteArray := prog_43_method_20_code
def yJ2_get : MethodName := ⟨RJ2, "get", "(I)Ljava/lang/Object;"⟩
abbrev cJ2_elementData : ByteArray := prog_43_method_18_code
def yJ2_elementData : MethodName := ⟨RJ2, "elementData", "(I)Ljava/lang/Object;"⟩
abbrev cJ2_remove : ByteArray := prog_43_method_29_code
def yJ2_remove : MethodName := ⟨RJ2, "remove", "(I)Ljava/lang/Object;"⟩
abbrev cJ2_fastRemove : ByteArray := prog_43_method_39_code
def yJ2_fastRemove : MethodName := ⟨RJ2, "fastRemove", "([Ljava/lang/Object;I)V"⟩
abbrev cJ2_isEmpty : ByteArray := prog_43_method_9_code
def yJ2_isEmpty : MethodName := ⟨RJ2, "isEmpty", "()Z"⟩
theorem q88 : (Jvm.Cond.initialized "java/util/ArrayList") ∈ lw_all := lw_g (lw_at lw_m1 5 rfl) rfl
theorem q135 : (Jvm.Cond.instantiable "java/util/ArrayList" (3 : Nat)) ∈ lw_all := lw_g (lw_at lw_m1 52 rfl) rfl
theorem q137 : (Jvm.Cond.instanceMethod ({ cls := "java/util/ArrayList", name := "<init>", desc := "()V" } : Jvm.MethodName)) ∈ lw_all := lw_g (lw_at lw_m1 54 rfl) rfl
theorem q138 : (Jvm.Cond.code ({ cls := "java/util/ArrayList", name := "<init>", desc := "()V" } : Jvm.MethodName) prog_43_method_2_code (1 : Nat) (Option.none : Option Jvm.ClassFile.FieldType)) ∈ lw_all := lw_g (lw_at lw_m1 55 rfl) rfl
theorem q139 : (Jvm.Cond.methodLink "java/util/ArrayList" (1 : Nat) ({ cls := "java/util/AbstractList", name := "<init>", desc := "()V" } : Jvm.MethodName)) ∈ lw_all := lw_g (lw_at lw_m1 56 rfl) rfl
theorem q146 : (Jvm.Cond.fieldLink "java/util/ArrayList" (39 : Nat) "java/util/ArrayList" "DEFAULTCAPACITY_EMPTY_ELEMENTDATA" "[Ljava/lang/Object;") ∈ lw_all := lw_g (lw_at lw_m1 63 rfl) rfl
theorem q147 : (Jvm.Cond.laysStatic "java/util/ArrayList" "DEFAULTCAPACITY_EMPTY_ELEMENTDATA" "[Ljava/lang/Object;") ∈ lw_tbl := lw_at lw_m1 64 rfl
theorem q148 : (Jvm.Cond.fieldLink "java/util/ArrayList" (9 : Nat) "java/util/ArrayList" "elementData" "[Ljava/lang/Object;") ∈ lw_all := lw_g (lw_at lw_m1 65 rfl) rfl
theorem q149 : (Jvm.Cond.fieldLink "java/util/ArrayList" (48 : Nat) "java/util/ArrayList" "size" "I") ∈ lw_all := lw_g (lw_at lw_m1 66 rfl) rfl
theorem q151 : (Jvm.Cond.fieldLink "java/util/ArrayList" (63 : Nat) "java/util/ArrayList" "modCount" "I") ∈ lw_all := lw_g (lw_at lw_m1 68 rfl) rfl
theorem q152 : (Jvm.Cond.sameField "java/util/ArrayList" "java/util/AbstractList" "modCount" "I") ∈ lw_all := lw_g (lw_at lw_m1 69 rfl) rfl
theorem q153 : (Jvm.Cond.lays "java/util/ArrayList" "java/util/ArrayList" "elementData" "[Ljava/lang/Object;") ∈ lw_all := lw_g (lw_at lw_m1 70 rfl) rfl
theorem q154 : (Jvm.Cond.soleField "java/util/ArrayList" "elementData") ∈ lw_all := lw_g (lw_at lw_m1 71 rfl) rfl
theorem q155 : (Jvm.Cond.lays "java/util/ArrayList" "java/util/ArrayList" "size" "I") ∈ lw_all := lw_g (lw_at lw_m1 72 rfl) rfl
theorem q156 : (Jvm.Cond.soleField "java/util/ArrayList" "size") ∈ lw_all := lw_g (lw_at lw_m1 73 rfl) rfl
theorem q157 : (Jvm.Cond.lays "java/util/ArrayList" "java/util/AbstractList" "modCount" "I") ∈ lw_all := lw_g (lw_at lw_m1 74 rfl) rfl
theorem q159 : (Jvm.Cond.superclass "java/util/ArrayList" "java/util/AbstractList") ∈ lw_all := lw_g (lw_at lw_m1 76 rfl) rfl
theorem q417 : (Jvm.Cond.instanceMethod ({ cls := "java/util/ArrayList", name := "size", desc := "()I" } : Jvm.MethodName)) ∈ lw_all := lw_g (lw_at lw_m2 94 rfl) rfl
theorem q418 : (Jvm.Cond.selects "java/util/ArrayList" ({ cls := "java/util/ArrayList", name := "size", desc := "()I" } : Jvm.MethodName) ({ cls := "java/util/ArrayList", name := "size", desc := "()I" } : Jvm.MethodName)) ∈ lw_all := lw_g (lw_at lw_m2 95 rfl) rfl
theorem q419 : (Jvm.Cond.code ({ cls := "java/util/ArrayList", name := "size", desc := "()I" } : Jvm.MethodName) prog_43_method_8_code (1 : Nat) (Option.some Jvm.ClassFile.FieldType.int)) ∈ lw_all := lw_g (lw_at lw_m2 96 rfl) rfl
theorem q440 : (Jvm.Cond.instanceMethod ({ cls := "java/util/ArrayList", name := "add", desc := "(Ljava/lang/Object;)Z" } : Jvm.MethodName)) ∈ lw_all := lw_g (lw_at lw_m2 117 rfl) rfl
theorem q441 : (Jvm.Cond.selects "java/util/ArrayList" ({ cls := "java/util/ArrayList", name := "add", desc := "(Ljava/lang/Object;)Z" } : Jvm.MethodName) ({ cls := "java/util/ArrayList", name := "add", desc := "(Ljava/lang/Object;)Z" } : Jvm.MethodName)) ∈ lw_all := lw_g (lw_at lw_m2 118 rfl) rfl
theorem q442 : (Jvm.Cond.code ({ cls := "java/util/ArrayList", name := "add", desc := "(Ljava/lang/Object;)Z" } : Jvm.MethodName) prog_43_method_25_code (2 : Nat) (Option.some Jvm.ClassFile.FieldType.boolean)) ∈ lw_all := lw_g (lw_at lw_m2 119 rfl) rfl
theorem q443 : (Jvm.Cond.methodLink "java/util/ArrayList" (131 : Nat) ({ cls := "java/util/ArrayList", name := "add", desc := "(Ljava/lang/Object;[Ljava/lang/Object;I)V" } : Jvm.MethodName)) ∈ lw_all := lw_g (lw_at lw_m2 120 rfl) rfl
theorem q444 : (Jvm.Cond.privateMethod ({ cls := "java/util/ArrayList", name := "add", desc := "(Ljava/lang/Object;[Ljava/lang/Object;I)V" } : Jvm.MethodName)) ∈ lw_tbl := lw_at lw_m2 121 rfl
theorem q445 : (Jvm.Cond.instanceMethod ({ cls := "java/util/ArrayList", name := "add", desc := "(Ljava/lang/Object;[Ljava/lang/Object;I)V" } : Jvm.MethodName)) ∈ lw_all := lw_g (lw_at lw_m2 122 rfl) rfl
theorem q446 : (Jvm.Cond.code ({ cls := "java/util/ArrayList", name := "add", desc := "(Ljava/lang/Object;[Ljava/lang/Object;I)V" } : Jvm.MethodName) prog_43_method_24_code (4 : Nat) (Option.none : Option Jvm.ClassFile.FieldType)) ∈ lw_all := lw_g (lw_at lw_m2 123 rfl) rfl
theorem q447 : (Jvm.Cond.methodLink "java/util/ArrayList" (129 : Nat) ({ cls := "java/util/ArrayList", name := "grow", desc := "()[Ljava/lang/Object;" } : Jvm.MethodName)) ∈ lw_all := lw_g (lw_at lw_m2 124 rfl) rfl
theorem q448 : (Jvm.Cond.privateMethod ({ cls := "java/util/ArrayList", name := "grow", desc := "()[Ljava/lang/Object;" } : Jvm.MethodName)) ∈ lw_tbl := lw_at lw_m2 125 rfl
theorem q449 : (Jvm.Cond.instanceMethod ({ cls := "java/util/ArrayList", name := "grow", desc := "()[Ljava/lang/Object;" } : Jvm.MethodName)) ∈ lw_all := lw_g (lw_at lw_m2 126 rfl) rfl
theorem q450 : (Jvm.Cond.code ({ cls := "java/util/ArrayList", name := "grow", desc := "()[Ljava/lang/Object;" } : Jvm.MethodName) prog_43_method_7_code (1 : Nat) (Option.some (Jvm.ClassFile.FieldType.array (Jvm.ClassFile.FieldType.object "java/lang/Object")))) ∈ lw_all := lw_g (lw_at lw_m2 127 rfl) rfl
theorem q451 : (Jvm.Cond.methodLink "java/util/ArrayList" (69 : Nat) ({ cls := "java/util/ArrayList", name := "grow", desc := "(I)[Ljava/lang/Object;" } : Jvm.MethodName)) ∈ lw_all := lw_g (lw_at lw_m2 128 rfl) rfl
theorem q452 : (Jvm.Cond.privateMethod ({ cls := "java/util/ArrayList", name := "grow", desc := "(I)[Ljava/lang/Object;" } : Jvm.MethodName)) ∈ lw_tbl := lw_at lw_m2 129 rfl
theorem q453 : (Jvm.Cond.instanceMethod ({ cls := "java/util/ArrayList", name := "grow", desc := "(I)[Ljava/lang/Object;" } : Jvm.MethodName)) ∈ lw_all := lw_g (lw_at lw_m2 130 rfl) rfl
theorem q454 : (Jvm.Cond.code ({ cls := "java/util/ArrayList", name := "grow", desc := "(I)[Ljava/lang/Object;" } : Jvm.MethodName) prog_43_method_6_code (4 : Nat) (Option.some (Jvm.ClassFile.FieldType.array (Jvm.ClassFile.FieldType.object "java/lang/Object")))) ∈ lw_all := lw_g (lw_at lw_m2 131 rfl) rfl
theorem q455 : (Jvm.Cond.methodLink "java/util/ArrayList" (73 : Nat) ({ cls := "jdk/internal/util/ArraysSupport", name := "newLength", desc := "(III)I" } : Jvm.MethodName)) ∈ lw_all := lw_g (lw_at lw_m2 132 rfl) rfl
theorem q465 : (Jvm.Cond.methodLink "java/util/ArrayList" (66 : Nat) ({ cls := "java/util/Arrays", name := "copyOf", desc := "([Ljava/lang/Object;I)[Ljava/lang/Object;" } : Jvm.MethodName)) ∈ lw_all := lw_g (lw_at lw_m2 142 rfl) rfl
theorem q491 : (Jvm.Cond.selects "java/util/ArrayList" ({ cls := "java/lang/Object", name := "getClass", desc := "()Ljava/lang/Class;" } : Jvm.MethodName) ({ cls := "java/lang/Object", name := "getClass", desc := "()Ljava/lang/Class;" } : Jvm.MethodName)) ∈ lw_all := lw_g (lw_at lw_m2 168 rfl) rfl
theorem q505 : (Jvm.Cond.methodLink "java/util/ArrayList" (79 : Nat) ({ cls := "java/lang/Math", name := "max", desc := "(II)I" } : Jvm.MethodName)) ∈ lw_all := lw_g (lw_at lw_m2 182 rfl) rfl
theorem q506 : (Jvm.Cond.classLink "java/util/ArrayList" (7 : Nat) "java/lang/Object") ∈ lw_all := lw_g (lw_at lw_m2 183 rfl) rfl
theorem q516 : (Jvm.Cond.instanceMethod ({ cls := "java/util/ArrayList", name := "get", desc := "(I)Ljava/lang/Object;" } : Jvm.MethodName)) ∈ lw_all := lw_g (lw_at lw_m2 193 rfl) rfl
theorem q517 : (Jvm.Cond.selects "java/util/ArrayList" ({ cls := "java/util/ArrayList", name := "get", desc := "(I)Ljava/lang/Object;" } : Jvm.MethodName) ({ cls := "java/util/ArrayList", name := "get", desc := "(I)Ljava/lang/Object;" } : Jvm.MethodName)) ∈ lw_all := lw_g (lw_at lw_m2 194 rfl) rfl
theorem q518 : (Jvm.Cond.code ({ cls := "java/util/ArrayList", name := "get", desc := "(I)Ljava/lang/Object;" } : Jvm.MethodName) prog_43_method_20_code (2 : Nat) (Option.some (Jvm.ClassFile.FieldType.object "java/lang/Object"))) ∈ lw_all := lw_g (lw_at lw_m2 195 rfl) rfl
theorem q519 : (Jvm.Cond.methodLink "java/util/ArrayList" (118 : Nat) ({ cls := "java/util/Objects", name := "checkIndex", desc := "(II)I" } : Jvm.MethodName)) ∈ lw_all := lw_g (lw_at lw_m2 196 rfl) rfl
theorem q525 : (Jvm.Cond.methodLink "java/util/ArrayList" (123 : Nat) ({ cls := "java/util/ArrayList", name := "elementData", desc := "(I)Ljava/lang/Object;" } : Jvm.MethodName)) ∈ lw_all := lw_g (lw_at lw_m2 202 rfl) rfl
theorem q526 : (Jvm.Cond.instanceMethod ({ cls := "java/util/ArrayList", name := "elementData", desc := "(I)Ljava/lang/Object;" } : Jvm.MethodName)) ∈ lw_all := lw_g (lw_at lw_m2 203 rfl) rfl
theorem q527 : (Jvm.Cond.selects "java/util/ArrayList" ({ cls := "java/util/ArrayList", name := "elementData", desc := "(I)Ljava/lang/Object;" } : Jvm.MethodName) ({ cls := "java/util/ArrayList", name := "elementData", desc := "(I)Ljava/lang/Object;" } : Jvm.MethodName)) ∈ lw_all := lw_g (lw_at lw_m2 204 rfl) rfl
theorem q528 : (Jvm.Cond.code ({ cls := "java/util/ArrayList", name := "elementData", desc := "(I)Ljava/lang/Object;" } : Jvm.MethodName) prog_43_method_18_code (2 : Nat) (Option.some (Jvm.ClassFile.FieldType.object "java/lang/Object"))) ∈ lw_all := lw_g (lw_at lw_m2 205 rfl) rfl
theorem q1094 : (Jvm.Cond.instanceMethod ({ cls := "java/util/ArrayList", name := "remove", desc := "(I)Ljava/lang/Object;" } : Jvm.MethodName)) ∈ lw_all := lw_g (lw_at lw_m5 51 rfl) rfl
theorem q1095 : (Jvm.Cond.selects "java/util/ArrayList" ({ cls := "java/util/ArrayList", name := "remove", desc := "(I)Ljava/lang/Object;" } : Jvm.MethodName) ({ cls := "java/util/ArrayList", name := "remove", desc := "(I)Ljava/lang/Object;" } : Jvm.MethodName)) ∈ lw_all := lw_g (lw_at lw_m5 52 rfl) rfl
theorem q1096 : (Jvm.Cond.code ({ cls := "java/util/ArrayList", name := "remove", desc := "(I)Ljava/lang/Object;" } : Jvm.MethodName) prog_43_method_29_code (4 : Nat) (Option.some (Jvm.ClassFile.FieldType.object "java/lang/Object"))) ∈ lw_all := lw_g (lw_at lw_m5 53 rfl) rfl
theorem q1097 : (Jvm.Cond.methodLink "java/util/ArrayList" (144 : Nat) ({ cls := "java/util/ArrayList", name := "fastRemove", desc := "([Ljava/lang/Object;I)V" } : Jvm.MethodName)) ∈ lw_all := lw_g (lw_at lw_m5 54 rfl) rfl
theorem q1098 : (Jvm.Cond.privateMethod ({ cls := "java/util/ArrayList", name := "fastRemove", desc := "([Ljava/lang/Object;I)V" } : Jvm.MethodName)) ∈ lw_tbl := lw_at lw_m5 55 rfl
theorem q1099 : (Jvm.Cond.instanceMethod ({ cls := "java/util/ArrayList", name := "fastRemove", desc := "([Ljava/lang/Object;I)V" } : Jvm.MethodName)) ∈ lw_all := lw_g (lw_at lw_m5 56 rfl) rfl
theorem q1100 : (Jvm.Cond.code ({ cls := "java/util/ArrayList", name := "fastRemove", desc := "([Ljava/lang/Object;I)V" } : Jvm.MethodName) prog_43_method_39_code (4 : Nat) (Option.none : Option Jvm.ClassFile.FieldType)) ∈ lw_all := lw_g (lw_at lw_m5 57 rfl) rfl
theorem q1101 : (Jvm.Cond.methodLink "java/util/ArrayList" (112 : Nat) ({ cls := "java/lang/System", name := "arraycopy", desc := "(Ljava/lang/Object;ILjava/lang/Object;II)V" } : Jvm.MethodName)) ∈ lw_all := lw_g (lw_at lw_m5 58 rfl) rfl
theorem q1248 : (Jvm.Cond.instanceMethod ({ cls := "java/util/ArrayList", name := "isEmpty", desc := "()Z" } : Jvm.MethodName)) ∈ lw_all := lw_g (lw_at lw_m5 205 rfl) rfl
theorem q1249 : (Jvm.Cond.selects "java/util/ArrayList" ({ cls := "java/util/ArrayList", name := "isEmpty", desc := "()Z" } : Jvm.MethodName) ({ cls := "java/util/ArrayList", name := "isEmpty", desc := "()Z" } : Jvm.MethodName)) ∈ lw_all := lw_g (lw_at lw_m5 206 rfl) rfl
theorem q1250 : (Jvm.Cond.code ({ cls := "java/util/ArrayList", name := "isEmpty", desc := "()Z" } : Jvm.MethodName) prog_43_method_9_code (1 : Nat) (Option.some Jvm.ClassFile.FieldType.boolean)) ∈ lw_all := lw_g (lw_at lw_m5 207 rfl) rfl
theorem q2118 : (Jvm.Cond.castable "java/util/ArrayList" "java/lang/Object") ∈ lw_tbl := lw_at lw_m9 115 rfl
theorem in_J2 : ∀ w ∈ wsJ20, w ∈ lw_all := lw_in wsJ20 [157, 153, 155] (by decide +kernel) (by decide +kernel)

/-! java/lang/Record -/
set_option maxRecDepth 100000
def RJ3 : String := "java/lang/Record"
abbrev cJ3_init : ByteArray := prog_30_method_1_code
def yJ3_init : MethodName := ⟨RJ3, "<init>", "()V"⟩
theorem q92 : (Jvm.Cond.initialized "java/lang/Record") ∈ lw_all := lw_g (lw_at lw_m1 9 rfl) rfl
theorem q426 : (Jvm.Cond.instanceMethod ({ cls := "java/lang/Record", name := "<init>", desc := "()V" } : Jvm.MethodName)) ∈ lw_all := lw_g (lw_at lw_m2 103 rfl) rfl
theorem q427 : (Jvm.Cond.code ({ cls := "java/lang/Record", name := "<init>", desc := "()V" } : Jvm.MethodName) prog_30_method_1_code (1 : Nat) (Option.none : Option Jvm.ClassFile.FieldType)) ∈ lw_all := lw_g (lw_at lw_m2 104 rfl) rfl
theorem q428 : (Jvm.Cond.methodLink "java/lang/Record" (1 : Nat) ({ cls := "java/lang/Object", name := "<init>", desc := "()V" } : Jvm.MethodName)) ∈ lw_all := lw_g (lw_at lw_m2 105 rfl) rfl

/-! jdk/internal/util/ArraysSupport -/
set_option maxRecDepth 100000
def RJ4 : String := "jdk/internal/util/ArraysSupport"
abbrev cJ4_newLength : ByteArray := prog_51_method_27_code
def yJ4_newLength : MethodName := ⟨RJ4, "newLength", "(III)I"⟩
abbrev cJ4_hugeLength : ByteArray := prog_51_method_28_code
def yJ4_hugeLength : MethodName := ⟨RJ4, "hugeLength", "(II)I"⟩
abbrev cJ4_vectorizedHashCode : ByteArray := prog_51_method_4_code
def yJ4_vectorizedHashCode : MethodName := ⟨RJ4, "vectorizedHashCode", "(Ljava/lang/Object;IIII)I"⟩
abbrev cJ4_signedHashCode : ByteArray := prog_51_method_5_code
def yJ4_signedHashCode : MethodName := ⟨RJ4, "signedHashCode", "(I[BII)I"⟩
abbrev cJ4_utf16hashCode : ByteArray := prog_51_method_10_code
def yJ4_utf16hashCode : MethodName := ⟨RJ4, "utf16hashCode", "(I[BII)I"⟩
abbrev cJ4_hashCode : ByteArray := prog_51_method_7_code
def yJ4_hashCode : MethodName := ⟨RJ4, "hashCode", "(I[CII)I"⟩
abbrev cJ4_hashCode_2 : ByteArray := prog_51_method_6_code
def yJ4_hashCode_2 : MethodName := ⟨RJ4, "hashCode", "(I[BII)I"⟩
abbrev cJ4_hashCode_3 : ByteArray := prog_51_method_8_code
def yJ4_hashCode_3 : MethodName := ⟨RJ4, "hashCode", "(I[SII)I"⟩
abbrev cJ4_hashCode_4 : ByteArray := prog_51_method_9_code
def yJ4_hashCode_4 : MethodName := ⟨RJ4, "hashCode", "(I[III)I"⟩
theorem q94 : (Jvm.Cond.initialized "jdk/internal/util/ArraysSupport") ∈ lw_all := lw_g (lw_at lw_m1 11 rfl) rfl
theorem q456 : (Jvm.Cond.static ({ cls := "jdk/internal/util/ArraysSupport", name := "newLength", desc := "(III)I" } : Jvm.MethodName)) ∈ lw_all := lw_g (lw_at lw_m2 133 rfl) rfl
theorem q457 : (Jvm.Cond.code ({ cls := "jdk/internal/util/ArraysSupport", name := "newLength", desc := "(III)I" } : Jvm.MethodName) prog_51_method_27_code (4 : Nat) (Option.some Jvm.ClassFile.FieldType.int)) ∈ lw_all := lw_g (lw_at lw_m2 134 rfl) rfl
theorem q458 : (Jvm.Cond.methodLink "jdk/internal/util/ArraysSupport" (194 : Nat) ({ cls := "java/lang/Math", name := "max", desc := "(II)I" } : Jvm.MethodName)) ∈ lw_all := lw_g (lw_at lw_m2 135 rfl) rfl
theorem q461 : (Jvm.Cond.constant "jdk/internal/util/ArraysSupport" (200 : Nat) (2147483639 : Int32)) ∈ lw_all := lw_g (lw_at lw_m2 138 rfl) rfl
theorem q462 : (Jvm.Cond.methodLink "jdk/internal/util/ArraysSupport" (201 : Nat) ({ cls := "jdk/internal/util/ArraysSupport", name := "hugeLength", desc := "(II)I" } : Jvm.MethodName)) ∈ lw_all := lw_g (lw_at lw_m2 139 rfl) rfl
theorem q463 : (Jvm.Cond.static ({ cls := "jdk/internal/util/ArraysSupport", name := "hugeLength", desc := "(II)I" } : Jvm.MethodName)) ∈ lw_all := lw_g (lw_at lw_m2 140 rfl) rfl
theorem q464 : (Jvm.Cond.code ({ cls := "jdk/internal/util/ArraysSupport", name := "hugeLength", desc := "(II)I" } : Jvm.MethodName) prog_51_method_28_code (3 : Nat) (Option.some Jvm.ClassFile.FieldType.int)) ∈ lw_all := lw_g (lw_at lw_m2 141 rfl) rfl
theorem q843 : (Jvm.Cond.static ({ cls := "jdk/internal/util/ArraysSupport", name := "vectorizedHashCode", desc := "(Ljava/lang/Object;IIII)I" } : Jvm.MethodName)) ∈ lw_all := lw_g (lw_at lw_m4 40 rfl) rfl
theorem q844 : (Jvm.Cond.code ({ cls := "jdk/internal/util/ArraysSupport", name := "vectorizedHashCode", desc := "(Ljava/lang/Object;IIII)I" } : Jvm.MethodName) prog_51_method_4_code (5 : Nat) (Option.some Jvm.ClassFile.FieldType.int)) ∈ lw_all := lw_g (lw_at lw_m4 41 rfl) rfl
theorem q845 : (Jvm.Cond.classLink "jdk/internal/util/ArraysSupport" (60 : Nat) "[B") ∈ lw_all := lw_g (lw_at lw_m4 42 rfl) rfl
theorem q846 : (Jvm.Cond.methodLink "jdk/internal/util/ArraysSupport" (62 : Nat) ({ cls := "jdk/internal/util/ArraysSupport", name := "signedHashCode", desc := "(I[BII)I" } : Jvm.MethodName)) ∈ lw_all := lw_g (lw_at lw_m4 43 rfl) rfl
theorem q847 : (Jvm.Cond.static ({ cls := "jdk/internal/util/ArraysSupport", name := "signedHashCode", desc := "(I[BII)I" } : Jvm.MethodName)) ∈ lw_all := lw_g (lw_at lw_m4 44 rfl) rfl
theorem q848 : (Jvm.Cond.code ({ cls := "jdk/internal/util/ArraysSupport", name := "signedHashCode", desc := "(I[BII)I" } : Jvm.MethodName) prog_51_method_5_code (6 : Nat) (Option.some Jvm.ClassFile.FieldType.int)) ∈ lw_all := lw_g (lw_at lw_m4 45 rfl) rfl
theorem q849 : (Jvm.Cond.methodLink "jdk/internal/util/ArraysSupport" (66 : Nat) ({ cls := "jdk/internal/util/ArraysSupport", name := "utf16hashCode", desc := "(I[BII)I" } : Jvm.MethodName)) ∈ lw_all := lw_g (lw_at lw_m4 46 rfl) rfl
theorem q850 : (Jvm.Cond.static ({ cls := "jdk/internal/util/ArraysSupport", name := "utf16hashCode", desc := "(I[BII)I" } : Jvm.MethodName)) ∈ lw_all := lw_g (lw_at lw_m4 47 rfl) rfl
theorem q851 : (Jvm.Cond.code ({ cls := "jdk/internal/util/ArraysSupport", name := "utf16hashCode", desc := "(I[BII)I" } : Jvm.MethodName) prog_51_method_10_code (6 : Nat) (Option.some Jvm.ClassFile.FieldType.int)) ∈ lw_all := lw_g (lw_at lw_m4 48 rfl) rfl
theorem q852 : (Jvm.Cond.fieldLink "jdk/internal/util/ArraysSupport" (106 : Nat) "jdk/internal/util/ArraysSupport" "JLA" "Ljdk/internal/access/JavaLangAccess;") ∈ lw_all := lw_g (lw_at lw_m4 49 rfl) rfl
theorem q853 : (Jvm.Cond.laysStatic "jdk/internal/util/ArraysSupport" "JLA" "Ljdk/internal/access/JavaLangAccess;") ∈ lw_tbl := lw_at lw_m4 50 rfl
theorem q854 : (Jvm.Cond.interfaceEntry "jdk/internal/util/ArraysSupport" (110 : Nat)) ∈ lw_tbl := lw_at lw_m4 51 rfl
theorem q855 : (Jvm.Cond.methodLink "jdk/internal/util/ArraysSupport" (110 : Nat) ({ cls := "jdk/internal/access/JavaLangAccess", name := "getUTF16Char", desc := "([BI)C" } : Jvm.MethodName)) ∈ lw_all := lw_g (lw_at lw_m4 52 rfl) rfl
theorem q865 : (Jvm.Cond.classLink "jdk/internal/util/ArraysSupport" (69 : Nat) "[C") ∈ lw_all := lw_g (lw_at lw_m4 62 rfl) rfl
theorem q866 : (Jvm.Cond.methodLink "jdk/internal/util/ArraysSupport" (71 : Nat) ({ cls := "jdk/internal/util/ArraysSupport", name := "hashCode", desc := "(I[CII)I" } : Jvm.MethodName)) ∈ lw_all := lw_g (lw_at lw_m4 63 rfl) rfl
theorem q867 : (Jvm.Cond.static ({ cls := "jdk/internal/util/ArraysSupport", name := "hashCode", desc := "(I[CII)I" } : Jvm.MethodName)) ∈ lw_all := lw_g (lw_at lw_m4 64 rfl) rfl
theorem q868 : (Jvm.Cond.code ({ cls := "jdk/internal/util/ArraysSupport", name := "hashCode", desc := "(I[CII)I" } : Jvm.MethodName) prog_51_method_7_code (6 : Nat) (Option.some Jvm.ClassFile.FieldType.int)) ∈ lw_all := lw_g (lw_at lw_m4 65 rfl) rfl
theorem q869 : (Jvm.Cond.methodLink "jdk/internal/util/ArraysSupport" (75 : Nat) ({ cls := "jdk/internal/util/ArraysSupport", name := "hashCode", desc := "(I[BII)I" } : Jvm.MethodName)) ∈ lw_all := lw_g (lw_at lw_m4 66 rfl) rfl
theorem q870 : (Jvm.Cond.static ({ cls := "jdk/internal/util/ArraysSupport", name := "hashCode", desc := "(I[BII)I" } : Jvm.MethodName)) ∈ lw_all := lw_g (lw_at lw_m4 67 rfl) rfl
theorem q871 : (Jvm.Cond.code ({ cls := "jdk/internal/util/ArraysSupport", name := "hashCode", desc := "(I[BII)I" } : Jvm.MethodName) prog_51_method_6_code (6 : Nat) (Option.some Jvm.ClassFile.FieldType.int)) ∈ lw_all := lw_g (lw_at lw_m4 68 rfl) rfl
theorem q872 : (Jvm.Cond.classLink "jdk/internal/util/ArraysSupport" (77 : Nat) "[S") ∈ lw_all := lw_g (lw_at lw_m4 69 rfl) rfl
theorem q873 : (Jvm.Cond.methodLink "jdk/internal/util/ArraysSupport" (79 : Nat) ({ cls := "jdk/internal/util/ArraysSupport", name := "hashCode", desc := "(I[SII)I" } : Jvm.MethodName)) ∈ lw_all := lw_g (lw_at lw_m4 70 rfl) rfl
theorem q874 : (Jvm.Cond.static ({ cls := "jdk/internal/util/ArraysSupport", name := "hashCode", desc := "(I[SII)I" } : Jvm.MethodName)) ∈ lw_all := lw_g (lw_at lw_m4 71 rfl) rfl
theorem q875 : (Jvm.Cond.code ({ cls := "jdk/internal/util/ArraysSupport", name := "hashCode", desc := "(I[SII)I" } : Jvm.MethodName) prog_51_method_8_code (6 : Nat) (Option.some Jvm.ClassFile.FieldType.int)) ∈ lw_all := lw_g (lw_at lw_m4 72 rfl) rfl
theorem q876 : (Jvm.Cond.classLink "jdk/internal/util/ArraysSupport" (82 : Nat) "[I") ∈ lw_all := lw_g (lw_at lw_m4 73 rfl) rfl
theorem q877 : (Jvm.Cond.methodLink "jdk/internal/util/ArraysSupport" (84 : Nat) ({ cls := "jdk/internal/util/ArraysSupport", name := "hashCode", desc := "(I[III)I" } : Jvm.MethodName)) ∈ lw_all := lw_g (lw_at lw_m4 74 rfl) rfl
theorem q878 : (Jvm.Cond.static ({ cls := "jdk/internal/util/ArraysSupport", name := "hashCode", desc := "(I[III)I" } : Jvm.MethodName)) ∈ lw_all := lw_g (lw_at lw_m4 75 rfl) rfl
theorem q879 : (Jvm.Cond.code ({ cls := "jdk/internal/util/ArraysSupport", name := "hashCode", desc := "(I[III)I" } : Jvm.MethodName) prog_51_method_9_code (6 : Nat) (Option.some Jvm.ClassFile.FieldType.int)) ∈ lw_all := lw_g (lw_at lw_m4 76 rfl) rfl

/-! java/lang/Math -/
set_option maxRecDepth 100000
def RJ5 : String := "java/lang/Math"
abbrev cJ5_max : ByteArray := prog_29_method_65_code
def yJ5_max : MethodName := ⟨RJ5, "max", "(II)I"⟩
abbrev cJ5_min : ByteArray := prog_29_method_69_code
def yJ5_min : MethodName := ⟨RJ5, "min", "(II)I"⟩
abbrev cJ5_abs : ByteArray := prog_29_method_59_code
def yJ5_abs : MethodName := ⟨RJ5, "abs", "(I)I"⟩
theorem q95 : (Jvm.Cond.initialized "java/lang/Math") ∈ lw_all := lw_g (lw_at lw_m1 12 rfl) rfl
theorem q459 : (Jvm.Cond.static ({ cls := "java/lang/Math", name := "max", desc := "(II)I" } : Jvm.MethodName)) ∈ lw_all := lw_g (lw_at lw_m2 136 rfl) rfl
theorem q460 : (Jvm.Cond.code ({ cls := "java/lang/Math", name := "max", desc := "(II)I" } : Jvm.MethodName) prog_29_method_65_code (2 : Nat) (Option.some Jvm.ClassFile.FieldType.int)) ∈ lw_all := lw_g (lw_at lw_m2 137 rfl) rfl
theorem q500 : (Jvm.Cond.static ({ cls := "java/lang/Math", name := "min", desc := "(II)I" } : Jvm.MethodName)) ∈ lw_all := lw_g (lw_at lw_m2 177 rfl) rfl
theorem q501 : (Jvm.Cond.code ({ cls := "java/lang/Math", name := "min", desc := "(II)I" } : Jvm.MethodName) prog_29_method_69_code (2 : Nat) (Option.some Jvm.ClassFile.FieldType.int)) ∈ lw_all := lw_g (lw_at lw_m2 178 rfl) rfl
theorem q1474 : (Jvm.Cond.static ({ cls := "java/lang/Math", name := "abs", desc := "(I)I" } : Jvm.MethodName)) ∈ lw_all := lw_g (lw_at lw_m6 191 rfl) rfl
theorem q1475 : (Jvm.Cond.code ({ cls := "java/lang/Math", name := "abs", desc := "(I)I" } : Jvm.MethodName) prog_29_method_59_code (1 : Nat) (Option.some Jvm.ClassFile.FieldType.int)) ∈ lw_all := lw_g (lw_at lw_m6 192 rfl) rfl

/-! java/util/Arrays -/
set_option maxRecDepth 100000
def RJ6 : String := "java/util/Arrays"
abbrev cJ6_copyOf : ByteArray := prog_44_method_119_code
def yJ6_copyOf : MethodName := ⟨RJ6, "copyOf", "([Ljava/lang/Object;I)[Ljava/lang/Object;"⟩
abbrev cJ6_copyOf_2 : ByteArray := prog_44_method_120_code
def yJ6_copyOf_2 : MethodName := ⟨RJ6, "copyOf", "([Ljava/lang/Object;ILjava/lang/Class;)[Ljava/lang/Object;"⟩
abbrev cJ6_copyOf_3 : ByteArray := prog_44_method_121_code
def yJ6_copyOf_3 : MethodName := ⟨RJ6, "copyOf", "([BI)[B"⟩
abbrev cJ6_copyOfRange : ByteArray := prog_44_method_132_code
def yJ6_copyOfRange : MethodName := ⟨RJ6, "copyOfRange", "([BII)[B"⟩
abbrev cJ6_copyOfRangeByte : ByteArray := prog_44_method_133_code
def yJ6_copyOfRangeByte : MethodName := ⟨RJ6, "copyOfRangeByte", "([BII)[B"⟩
abbrev cJ6_checkLength : ByteArray := prog_44_method_131_code
def yJ6_checkLength : MethodName := ⟨RJ6, "checkLength", "(II)V"⟩
theorem q96 : (Jvm.Cond.initialized "java/util/Arrays") ∈ lw_all := lw_g (lw_at lw_m1 13 rfl) rfl
theorem q466 : (Jvm.Cond.static ({ cls := "java/util/Arrays", name := "copyOf", desc := "([Ljava/lang/Object;I)[Ljava/lang/Object;" } : Jvm.MethodName)) ∈ lw_all := lw_g (lw_at lw_m2 143 rfl) rfl
theorem q467 : (Jvm.Cond.code ({ cls := "java/util/Arrays", name := "copyOf", desc := "([Ljava/lang/Object;I)[Ljava/lang/Object;" } : Jvm.MethodName) prog_44_method_119_code (2 : Nat) (Option.some (Jvm.ClassFile.FieldType.array (Jvm.ClassFile.FieldType.object "java/lang/Object")))) ∈ lw_all := lw_g (lw_at lw_m2 144 rfl) rfl
theorem q468 : (Jvm.Cond.methodLink "java/util/Arrays" (86 : Nat) ({ cls := "java/lang/Object", name := "getClass", desc := "()Ljava/lang/Class;" } : Jvm.MethodName)) ∈ lw_all := lw_g (lw_at lw_m2 145 rfl) rfl
theorem q493 : (Jvm.Cond.methodLink "java/util/Arrays" (300 : Nat) ({ cls := "java/util/Arrays", name := "copyOf", desc := "([Ljava/lang/Object;ILjava/lang/Class;)[Ljava/lang/Object;" } : Jvm.MethodName)) ∈ lw_all := lw_g (lw_at lw_m2 170 rfl) rfl
theorem q494 : (Jvm.Cond.static ({ cls := "java/util/Arrays", name := "copyOf", desc := "([Ljava/lang/Object;ILjava/lang/Class;)[Ljava/lang/Object;" } : Jvm.MethodName)) ∈ lw_all := lw_g (lw_at lw_m2 171 rfl) rfl
theorem q495 : (Jvm.Cond.code ({ cls := "java/util/Arrays", name := "copyOf", desc := "([Ljava/lang/Object;ILjava/lang/Class;)[Ljava/lang/Object;" } : Jvm.MethodName) prog_44_method_120_code (4 : Nat) (Option.some (Jvm.ClassFile.FieldType.array (Jvm.ClassFile.FieldType.object "java/lang/Object")))) ∈ lw_all := lw_g (lw_at lw_m2 172 rfl) rfl
theorem q496 : (Jvm.Cond.classLink "java/util/Arrays" (110 : Nat) "[Ljava/lang/Object;") ∈ lw_all := lw_g (lw_at lw_m2 173 rfl) rfl
theorem q498 : (Jvm.Cond.classLink "java/util/Arrays" (2 : Nat) "java/lang/Object") ∈ lw_all := lw_g (lw_at lw_m2 175 rfl) rfl
theorem q499 : (Jvm.Cond.methodLink "java/util/Arrays" (304 : Nat) ({ cls := "java/lang/Math", name := "min", desc := "(II)I" } : Jvm.MethodName)) ∈ lw_all := lw_g (lw_at lw_m2 176 rfl) rfl
theorem q502 : (Jvm.Cond.methodLink "java/util/Arrays" (150 : Nat) ({ cls := "java/lang/System", name := "arraycopy", desc := "(Ljava/lang/Object;ILjava/lang/Object;II)V" } : Jvm.MethodName)) ∈ lw_all := lw_g (lw_at lw_m2 179 rfl) rfl
theorem q629 : (Jvm.Cond.static ({ cls := "java/util/Arrays", name := "copyOf", desc := "([BI)[B" } : Jvm.MethodName)) ∈ lw_all := lw_g (lw_at lw_m3 66 rfl) rfl
theorem q630 : (Jvm.Cond.code ({ cls := "java/util/Arrays", name := "copyOf", desc := "([BI)[B" } : Jvm.MethodName) prog_44_method_121_code (3 : Nat) (Option.some (Jvm.ClassFile.FieldType.array Jvm.ClassFile.FieldType.byte))) ∈ lw_all := lw_g (lw_at lw_m3 67 rfl) rfl
theorem q631 : (Jvm.Cond.methodLink "java/util/Arrays" (310 : Nat) ({ cls := "[B", name := "clone", desc := "()Ljava/lang/Object;" } : Jvm.MethodName)) ∈ lw_all := lw_g (lw_at lw_m3 68 rfl) rfl
theorem q637 : (Jvm.Cond.classLink "java/util/Arrays" (311 : Nat) "[B") ∈ lw_all := lw_g (lw_at lw_m3 74 rfl) rfl
theorem q717 : (Jvm.Cond.static ({ cls := "java/util/Arrays", name := "copyOfRange", desc := "([BII)[B" } : Jvm.MethodName)) ∈ lw_all := lw_g (lw_at lw_m3 154 rfl) rfl
theorem q718 : (Jvm.Cond.code ({ cls := "java/util/Arrays", name := "copyOfRange", desc := "([BII)[B" } : Jvm.MethodName) prog_44_method_132_code (3 : Nat) (Option.some (Jvm.ClassFile.FieldType.array Jvm.ClassFile.FieldType.byte))) ∈ lw_all := lw_g (lw_at lw_m3 155 rfl) rfl
theorem q719 : (Jvm.Cond.methodLink "java/util/Arrays" (339 : Nat) ({ cls := "java/util/Arrays", name := "copyOfRangeByte", desc := "([BII)[B" } : Jvm.MethodName)) ∈ lw_all := lw_g (lw_at lw_m3 156 rfl) rfl
theorem q720 : (Jvm.Cond.static ({ cls := "java/util/Arrays", name := "copyOfRangeByte", desc := "([BII)[B" } : Jvm.MethodName)) ∈ lw_all := lw_g (lw_at lw_m3 157 rfl) rfl
theorem q721 : (Jvm.Cond.code ({ cls := "java/util/Arrays", name := "copyOfRangeByte", desc := "([BII)[B" } : Jvm.MethodName) prog_44_method_133_code (5 : Nat) (Option.some (Jvm.ClassFile.FieldType.array Jvm.ClassFile.FieldType.byte))) ∈ lw_all := lw_g (lw_at lw_m3 158 rfl) rfl
theorem q722 : (Jvm.Cond.methodLink "java/util/Arrays" (343 : Nat) ({ cls := "java/util/Arrays", name := "checkLength", desc := "(II)V" } : Jvm.MethodName)) ∈ lw_all := lw_g (lw_at lw_m3 159 rfl) rfl
theorem q723 : (Jvm.Cond.static ({ cls := "java/util/Arrays", name := "checkLength", desc := "(II)V" } : Jvm.MethodName)) ∈ lw_all := lw_g (lw_at lw_m3 160 rfl) rfl
theorem q724 : (Jvm.Cond.code ({ cls := "java/util/Arrays", name := "checkLength", desc := "(II)V" } : Jvm.MethodName) prog_44_method_131_code (2 : Nat) (Option.none : Option Jvm.ClassFile.FieldType)) ∈ lw_all := lw_g (lw_at lw_m3 161 rfl) rfl

/-! java/util/Objects -/
set_option maxRecDepth 100000
def RJ7 : String := "java/util/Objects"
abbrev cJ7_checkIndex : ByteArray := prog_47_method_17_code
def yJ7_checkIndex : MethodName := ⟨RJ7, "checkIndex", "(II)I"⟩
theorem q98 : (Jvm.Cond.initialized "java/util/Objects") ∈ lw_all := lw_g (lw_at lw_m1 15 rfl) rfl
theorem q520 : (Jvm.Cond.static ({ cls := "java/util/Objects", name := "checkIndex", desc := "(II)I" } : Jvm.MethodName)) ∈ lw_all := lw_g (lw_at lw_m2 197 rfl) rfl
theorem q521 : (Jvm.Cond.code ({ cls := "java/util/Objects", name := "checkIndex", desc := "(II)I" } : Jvm.MethodName) prog_47_method_17_code (2 : Nat) (Option.some Jvm.ClassFile.FieldType.int)) ∈ lw_all := lw_g (lw_at lw_m2 198 rfl) rfl
theorem q522 : (Jvm.Cond.methodLink "java/util/Objects" (105 : Nat) ({ cls := "jdk/internal/util/Preconditions", name := "checkIndex", desc := "(IILjava/util/function/BiFunction;)I" } : Jvm.MethodName)) ∈ lw_all := lw_g (lw_at lw_m2 199 rfl) rfl

/-! jdk/internal/util/Preconditions -/
set_option maxRecDepth 100000
def RJ8 : String := "jdk/internal/util/Preconditions"
abbrev cJ8_checkIndex : ByteArray := prog_52_method_11_code
def yJ8_checkIndex : MethodName := ⟨RJ8, "checkIndex", "(IILjava/util/function/BiFunction;)I"⟩
abbrev cJ8_checkFromIndexSize : ByteArray := prog_52_method_13_code
def yJ8_checkFromIndexSize : MethodName := ⟨RJ8, "checkFromIndexSize", "(IIILjava/util/function/BiFunction;)I"⟩
theorem q99 : (Jvm.Cond.initialized "jdk/internal/util/Preconditions") ∈ lw_all := lw_g (lw_at lw_m1 16 rfl) rfl
theorem q523 : (Jvm.Cond.static ({ cls := "jdk/internal/util/Preconditions", name := "checkIndex", desc := "(IILjava/util/function/BiFunction;)I" } : Jvm.MethodName)) ∈ lw_all := lw_g (lw_at lw_m2 200 rfl) rfl
theorem q524 : (Jvm.Cond.code ({ cls := "jdk/internal/util/Preconditions", name := "checkIndex", desc := "(IILjava/util/function/BiFunction;)I" } : Jvm.MethodName) prog_52_method_11_code (3 : Nat) (Option.some Jvm.ClassFile.FieldType.int)) ∈ lw_all := lw_g (lw_at lw_m2 201 rfl) rfl
theorem q666 : (Jvm.Cond.laysStatic "jdk/internal/util/Preconditions" "SIOOBE_FORMATTER" "Ljava/util/function/BiFunction;") ∈ lw_tbl := lw_at lw_m3 103 rfl
theorem q668 : (Jvm.Cond.static ({ cls := "jdk/internal/util/Preconditions", name := "checkFromIndexSize", desc := "(IIILjava/util/function/BiFunction;)I" } : Jvm.MethodName)) ∈ lw_all := lw_g (lw_at lw_m3 105 rfl) rfl
theorem q669 : (Jvm.Cond.code ({ cls := "jdk/internal/util/Preconditions", name := "checkFromIndexSize", desc := "(IIILjava/util/function/BiFunction;)I" } : Jvm.MethodName) prog_52_method_13_code (4 : Nat) (Option.some Jvm.ClassFile.FieldType.int)) ∈ lw_all := lw_g (lw_at lw_m3 106 rfl) rfl

/-! java/lang/AbstractStringBuilder -/
set_option maxRecDepth 100000
def RJ9 : String := "java/lang/AbstractStringBuilder"
abbrev cJ9_init : ByteArray := prog_21_method_2_code
def yJ9_init : MethodName := ⟨RJ9, "<init>", "(I)V"⟩
abbrev cJ9_append : ByteArray := prog_21_method_31_code
def yJ9_append : MethodName := ⟨RJ9, "append", "(C)Ljava/lang/AbstractStringBuilder;"⟩
abbrev cJ9_ensureCapacityInternal : ByteArray := prog_21_method_9_code
def yJ9_ensureCapacityInternal : MethodName := ⟨RJ9, "ensureCapacityInternal", "(I)V"⟩
abbrev cJ9_newCapacity : ByteArray := prog_21_method_10_code
def yJ9_newCapacity : MethodName := ⟨RJ9, "newCapacity", "(I)I"⟩
abbrev cJ9_isLatin1 : ByteArray := prog_21_method_68_code
def yJ9_isLatin1 : MethodName := ⟨RJ9, "isLatin1", "()Z"⟩
abbrev cJ9_inflate : ByteArray := prog_21_method_11_code
def yJ9_inflate : MethodName := ⟨RJ9, "inflate", "()V"⟩
abbrev cJ9_getValue : ByteArray := prog_21_method_64_code
def yJ9_getValue : MethodName := ⟨RJ9, "getValue", "()[B"⟩
abbrev cJ9_length : ByteArray := prog_21_method_6_code
def yJ9_length : MethodName := ⟨RJ9, "length", "()I"⟩
theorem q105 : (Jvm.Cond.initialized "java/lang/AbstractStringBuilder") ∈ lw_all := lw_g (lw_at lw_m1 22 rfl) rfl
theorem q586 : (Jvm.Cond.instanceMethod ({ cls := "java/lang/AbstractStringBuilder", name := "<init>", desc := "(I)V" } : Jvm.MethodName)) ∈ lw_all := lw_g (lw_at lw_m3 23 rfl) rfl
theorem q587 : (Jvm.Cond.code ({ cls := "java/lang/AbstractStringBuilder", name := "<init>", desc := "(I)V" } : Jvm.MethodName) prog_21_method_2_code (2 : Nat) (Option.none : Option Jvm.ClassFile.FieldType)) ∈ lw_all := lw_g (lw_at lw_m3 24 rfl) rfl
theorem q588 : (Jvm.Cond.methodLink "java/lang/AbstractStringBuilder" (3 : Nat) ({ cls := "java/lang/Object", name := "<init>", desc := "()V" } : Jvm.MethodName)) ∈ lw_all := lw_g (lw_at lw_m3 25 rfl) rfl
theorem q589 : (Jvm.Cond.fieldLink "java/lang/AbstractStringBuilder" (18 : Nat) "java/lang/String" "COMPACT_STRINGS" "Z") ∈ lw_all := lw_g (lw_at lw_m3 26 rfl) rfl
theorem q591 : (Jvm.Cond.methodLink "java/lang/AbstractStringBuilder" (26 : Nat) ({ cls := "java/lang/StringUTF16", name := "newBytesFor", desc := "(I)[B" } : Jvm.MethodName)) ∈ lw_all := lw_g (lw_at lw_m3 28 rfl) rfl
theorem q598 : (Jvm.Cond.fieldLink "java/lang/AbstractStringBuilder" (15 : Nat) "java/lang/AbstractStringBuilder" "value" "[B") ∈ lw_all := lw_g (lw_at lw_m3 35 rfl) rfl
theorem q599 : (Jvm.Cond.fieldLink "java/lang/AbstractStringBuilder" (22 : Nat) "java/lang/AbstractStringBuilder" "coder" "B") ∈ lw_all := lw_g (lw_at lw_m3 36 rfl) rfl
theorem q601 : (Jvm.Cond.fieldLink "java/lang/AbstractStringBuilder" (79 : Nat) "java/lang/AbstractStringBuilder" "count" "I") ∈ lw_all := lw_g (lw_at lw_m3 38 rfl) rfl
theorem q603 : (Jvm.Cond.soleField "java/lang/AbstractStringBuilder" "value") ∈ lw_all := lw_g (lw_at lw_m3 40 rfl) rfl
theorem q605 : (Jvm.Cond.soleField "java/lang/AbstractStringBuilder" "coder") ∈ lw_all := lw_g (lw_at lw_m3 42 rfl) rfl
theorem q607 : (Jvm.Cond.soleField "java/lang/AbstractStringBuilder" "maybeLatin1") ∈ lw_all := lw_g (lw_at lw_m3 44 rfl) rfl
theorem q609 : (Jvm.Cond.soleField "java/lang/AbstractStringBuilder" "count") ∈ lw_all := lw_g (lw_at lw_m3 46 rfl) rfl
theorem q616 : (Jvm.Cond.instanceMethod ({ cls := "java/lang/AbstractStringBuilder", name := "append", desc := "(C)Ljava/lang/AbstractStringBuilder;" } : Jvm.MethodName)) ∈ lw_all := lw_g (lw_at lw_m3 53 rfl) rfl
theorem q617 : (Jvm.Cond.code ({ cls := "java/lang/AbstractStringBuilder", name := "append", desc := "(C)Ljava/lang/AbstractStringBuilder;" } : Jvm.MethodName) prog_21_method_31_code (2 : Nat) (Option.some (Jvm.ClassFile.FieldType.object "java/lang/AbstractStringBuilder"))) ∈ lw_all := lw_g (lw_at lw_m3 54 rfl) rfl
theorem q618 : (Jvm.Cond.methodLink "java/lang/AbstractStringBuilder" (100 : Nat) ({ cls := "java/lang/AbstractStringBuilder", name := "ensureCapacityInternal", desc := "(I)V" } : Jvm.MethodName)) ∈ lw_all := lw_g (lw_at lw_m3 55 rfl) rfl
theorem q619 : (Jvm.Cond.privateMethod ({ cls := "java/lang/AbstractStringBuilder", name := "ensureCapacityInternal", desc := "(I)V" } : Jvm.MethodName)) ∈ lw_tbl := lw_at lw_m3 56 rfl
theorem q620 : (Jvm.Cond.instanceMethod ({ cls := "java/lang/AbstractStringBuilder", name := "ensureCapacityInternal", desc := "(I)V" } : Jvm.MethodName)) ∈ lw_all := lw_g (lw_at lw_m3 57 rfl) rfl
theorem q621 : (Jvm.Cond.code ({ cls := "java/lang/AbstractStringBuilder", name := "ensureCapacityInternal", desc := "(I)V" } : Jvm.MethodName) prog_21_method_9_code (3 : Nat) (Option.none : Option Jvm.ClassFile.FieldType)) ∈ lw_all := lw_g (lw_at lw_m3 58 rfl) rfl
theorem q622 : (Jvm.Cond.methodLink "java/lang/AbstractStringBuilder" (104 : Nat) ({ cls := "java/lang/AbstractStringBuilder", name := "newCapacity", desc := "(I)I" } : Jvm.MethodName)) ∈ lw_all := lw_g (lw_at lw_m3 59 rfl) rfl
theorem q623 : (Jvm.Cond.privateMethod ({ cls := "java/lang/AbstractStringBuilder", name := "newCapacity", desc := "(I)I" } : Jvm.MethodName)) ∈ lw_tbl := lw_at lw_m3 60 rfl
theorem q624 : (Jvm.Cond.instanceMethod ({ cls := "java/lang/AbstractStringBuilder", name := "newCapacity", desc := "(I)I" } : Jvm.MethodName)) ∈ lw_all := lw_g (lw_at lw_m3 61 rfl) rfl
theorem q625 : (Jvm.Cond.code ({ cls := "java/lang/AbstractStringBuilder", name := "newCapacity", desc := "(I)I" } : Jvm.MethodName) prog_21_method_10_code (6 : Nat) (Option.some Jvm.ClassFile.FieldType.int)) ∈ lw_all := lw_g (lw_at lw_m3 62 rfl) rfl
theorem q626 : (Jvm.Cond.methodLink "java/lang/AbstractStringBuilder" (114 : Nat) ({ cls := "jdk/internal/util/ArraysSupport", name := "newLength", desc := "(III)I" } : Jvm.MethodName)) ∈ lw_all := lw_g (lw_at lw_m3 63 rfl) rfl
theorem q627 : (Jvm.Cond.constant "java/lang/AbstractStringBuilder" (39 : Nat) (2147483647 : Int32)) ∈ lw_all := lw_g (lw_at lw_m3 64 rfl) rfl
theorem q628 : (Jvm.Cond.methodLink "java/lang/AbstractStringBuilder" (108 : Nat) ({ cls := "java/util/Arrays", name := "copyOf", desc := "([BI)[B" } : Jvm.MethodName)) ∈ lw_all := lw_g (lw_at lw_m3 65 rfl) rfl
theorem q638 : (Jvm.Cond.methodLink "java/lang/AbstractStringBuilder" (83 : Nat) ({ cls := "java/lang/AbstractStringBuilder", name := "isLatin1", desc := "()Z" } : Jvm.MethodName)) ∈ lw_all := lw_g (lw_at lw_m3 75 rfl) rfl
theorem q639 : (Jvm.Cond.instanceMethod ({ cls := "java/lang/AbstractStringBuilder", name := "isLatin1", desc := "()Z" } : Jvm.MethodName)) ∈ lw_all := lw_g (lw_at lw_m3 76 rfl) rfl
theorem q640 : (Jvm.Cond.sameMethod "java/lang/AbstractStringBuilder" "java/lang/AbstractStringBuilder" "isLatin1" "()Z") ∈ lw_all := lw_g (lw_at lw_m3 77 rfl) rfl
theorem q642 : (Jvm.Cond.code ({ cls := "java/lang/AbstractStringBuilder", name := "isLatin1", desc := "()Z" } : Jvm.MethodName) prog_21_method_68_code (1 : Nat) (Option.some Jvm.ClassFile.FieldType.boolean)) ∈ lw_all := lw_g (lw_at lw_m3 79 rfl) rfl
theorem q643 : (Jvm.Cond.methodLink "java/lang/AbstractStringBuilder" (191 : Nat) ({ cls := "java/lang/StringLatin1", name := "canEncode", desc := "(C)Z" } : Jvm.MethodName)) ∈ lw_all := lw_g (lw_at lw_m3 80 rfl) rfl
theorem q646 : (Jvm.Cond.methodLink "java/lang/AbstractStringBuilder" (195 : Nat) ({ cls := "java/lang/AbstractStringBuilder", name := "inflate", desc := "()V" } : Jvm.MethodName)) ∈ lw_all := lw_g (lw_at lw_m3 83 rfl) rfl
theorem q647 : (Jvm.Cond.privateMethod ({ cls := "java/lang/AbstractStringBuilder", name := "inflate", desc := "()V" } : Jvm.MethodName)) ∈ lw_tbl := lw_at lw_m3 84 rfl
theorem q648 : (Jvm.Cond.instanceMethod ({ cls := "java/lang/AbstractStringBuilder", name := "inflate", desc := "()V" } : Jvm.MethodName)) ∈ lw_all := lw_g (lw_at lw_m3 85 rfl) rfl
theorem q649 : (Jvm.Cond.code ({ cls := "java/lang/AbstractStringBuilder", name := "inflate", desc := "()V" } : Jvm.MethodName) prog_21_method_11_code (2 : Nat) (Option.none : Option Jvm.ClassFile.FieldType)) ∈ lw_all := lw_g (lw_at lw_m3 86 rfl) rfl
theorem q650 : (Jvm.Cond.methodLink "java/lang/AbstractStringBuilder" (125 : Nat) ({ cls := "java/lang/StringLatin1", name := "inflate", desc := "([BI[BII)V" } : Jvm.MethodName)) ∈ lw_all := lw_g (lw_at lw_m3 87 rfl) rfl
theorem q679 : (Jvm.Cond.methodLink "java/lang/AbstractStringBuilder" (197 : Nat) ({ cls := "java/lang/StringUTF16", name := "putCharSB", desc := "([BII)V" } : Jvm.MethodName)) ∈ lw_all := lw_g (lw_at lw_m3 116 rfl) rfl
theorem q703 : (Jvm.Cond.instanceMethod ({ cls := "java/lang/AbstractStringBuilder", name := "getValue", desc := "()[B" } : Jvm.MethodName)) ∈ lw_all := lw_g (lw_at lw_m3 140 rfl) rfl
theorem q704 : (Jvm.Cond.sameMethod "java/lang/AbstractStringBuilder" "java/lang/AbstractStringBuilder" "getValue" "()[B") ∈ lw_all := lw_g (lw_at lw_m3 141 rfl) rfl
theorem q706 : (Jvm.Cond.code ({ cls := "java/lang/AbstractStringBuilder", name := "getValue", desc := "()[B" } : Jvm.MethodName) prog_21_method_64_code (1 : Nat) (Option.some (Jvm.ClassFile.FieldType.array Jvm.ClassFile.FieldType.byte))) ∈ lw_all := lw_g (lw_at lw_m3 143 rfl) rfl
theorem q708 : (Jvm.Cond.instanceMethod ({ cls := "java/lang/AbstractStringBuilder", name := "length", desc := "()I" } : Jvm.MethodName)) ∈ lw_all := lw_g (lw_at lw_m3 145 rfl) rfl
theorem q709 : (Jvm.Cond.sameMethod "java/lang/AbstractStringBuilder" "java/lang/AbstractStringBuilder" "length" "()I") ∈ lw_all := lw_g (lw_at lw_m3 146 rfl) rfl
theorem q714 : (Jvm.Cond.code ({ cls := "java/lang/AbstractStringBuilder", name := "length", desc := "()I" } : Jvm.MethodName) prog_21_method_6_code (1 : Nat) (Option.some Jvm.ClassFile.FieldType.int)) ∈ lw_all := lw_g (lw_at lw_m3 151 rfl) rfl
theorem q2110 : (Jvm.Cond.sameMethod "java/lang/AbstractStringBuilder" "java/lang/AbstractStringBuilder" "append" "(C)Ljava/lang/AbstractStringBuilder;") ∈ lw_all := lw_g (lw_at lw_m9 107 rfl) rfl
theorem q2111 : (Jvm.Cond.sameMethod "java/lang/AbstractStringBuilder" "java/lang/AbstractStringBuilder" "ensureCapacityInternal" "(I)V") ∈ lw_all := lw_g (lw_at lw_m9 108 rfl) rfl
theorem q2112 : (Jvm.Cond.sameMethod "java/lang/AbstractStringBuilder" "java/lang/AbstractStringBuilder" "newCapacity" "(I)I") ∈ lw_all := lw_g (lw_at lw_m9 109 rfl) rfl
theorem q2113 : (Jvm.Cond.sameMethod "java/lang/AbstractStringBuilder" "java/lang/AbstractStringBuilder" "inflate" "()V") ∈ lw_all := lw_g (lw_at lw_m9 110 rfl) rfl

/-! java/lang/StringBuilder -/
set_option maxRecDepth 100000
def RJ10 : String := "java/lang/StringBuilder"
def TJ10 : u_T := fun k => match k with
  | 0 => ("java/lang/AbstractStringBuilder", "value", "[B", false)
  | 1 => ("java/lang/AbstractStringBuilder", "coder", "B", false)
  | 2 => ("java/lang/AbstractStringBuilder", "maybeLatin1", "Z", false)
  | _ => ("java/lang/AbstractStringBuilder", "count", "I", false)
def tyJ10 : Nat → FieldType := fun k => match k with
  | 0 => .array .byte
  | 1 => .byte
  | 2 => .boolean
  | _ => .int
abbrev wsJ100 : List Cond := u_ws RJ10 TJ10 4
theorem nmJ10 : ∀ a, a < 4 → ∀ b, b < 4 → a ≠ b → (TJ10 a).2.1 ≠ (TJ10 b).2.1 := by decide +kernel
theorem tyJ10_ok : ∀ k, k < 4 → parseFieldDescriptor (TJ10 k).2.2.1 = some (tyJ10 k) := by decide +kernel
abbrev cJ10_init : ByteArray := prog_33_method_1_code
def yJ10_init : MethodName := ⟨RJ10, "<init>", "()V"⟩
abbrev cJ10_append : ByteArray := prog_33_method_14_code
def yJ10_append : MethodName := ⟨RJ10, "append", "(C)Ljava/lang/StringBuilder;"⟩
abbrev cJ10_toString : ByteArray := prog_33_method_42_code
def yJ10_toString : MethodName := ⟨RJ10, "toString", "()Ljava/lang/String;"⟩
abbrev cJ10_length : ByteArray := prog_33_method_93_code
def yJ10_length : MethodName := ⟨RJ10, "length", "()I"⟩
theorem q106 : (Jvm.Cond.initialized "java/lang/StringBuilder") ∈ lw_all := lw_g (lw_at lw_m1 23 rfl) rfl
theorem q489 : (Jvm.Cond.selects "java/lang/StringBuilder" ({ cls := "java/lang/Object", name := "getClass", desc := "()Ljava/lang/Class;" } : Jvm.MethodName) ({ cls := "java/lang/Object", name := "getClass", desc := "()Ljava/lang/Class;" } : Jvm.MethodName)) ∈ lw_all := lw_g (lw_at lw_m2 166 rfl) rfl
theorem q581 : (Jvm.Cond.instantiable "java/lang/StringBuilder" (4 : Nat)) ∈ lw_all := lw_g (lw_at lw_m3 18 rfl) rfl
theorem q583 : (Jvm.Cond.instanceMethod ({ cls := "java/lang/StringBuilder", name := "<init>", desc := "()V" } : Jvm.MethodName)) ∈ lw_all := lw_g (lw_at lw_m3 20 rfl) rfl
theorem q584 : (Jvm.Cond.code ({ cls := "java/lang/StringBuilder", name := "<init>", desc := "()V" } : Jvm.MethodName) prog_33_method_1_code (1 : Nat) (Option.none : Option Jvm.ClassFile.FieldType)) ∈ lw_all := lw_g (lw_at lw_m3 21 rfl) rfl
theorem q585 : (Jvm.Cond.methodLink "java/lang/StringBuilder" (1 : Nat) ({ cls := "java/lang/AbstractStringBuilder", name := "<init>", desc := "(I)V" } : Jvm.MethodName)) ∈ lw_all := lw_g (lw_at lw_m3 22 rfl) rfl
theorem q602 : (Jvm.Cond.lays "java/lang/StringBuilder" "java/lang/AbstractStringBuilder" "value" "[B") ∈ lw_all := lw_g (lw_at lw_m3 39 rfl) rfl
theorem q604 : (Jvm.Cond.lays "java/lang/StringBuilder" "java/lang/AbstractStringBuilder" "coder" "B") ∈ lw_all := lw_g (lw_at lw_m3 41 rfl) rfl
theorem q606 : (Jvm.Cond.lays "java/lang/StringBuilder" "java/lang/AbstractStringBuilder" "maybeLatin1" "Z") ∈ lw_all := lw_g (lw_at lw_m3 43 rfl) rfl
theorem q608 : (Jvm.Cond.lays "java/lang/StringBuilder" "java/lang/AbstractStringBuilder" "count" "I") ∈ lw_all := lw_g (lw_at lw_m3 45 rfl) rfl
theorem q610 : (Jvm.Cond.superclass "java/lang/StringBuilder" "java/lang/AbstractStringBuilder") ∈ lw_all := lw_g (lw_at lw_m3 47 rfl) rfl
theorem q612 : (Jvm.Cond.instanceMethod ({ cls := "java/lang/StringBuilder", name := "append", desc := "(C)Ljava/lang/StringBuilder;" } : Jvm.MethodName)) ∈ lw_all := lw_g (lw_at lw_m3 49 rfl) rfl
theorem q613 : (Jvm.Cond.selects "java/lang/StringBuilder" ({ cls := "java/lang/StringBuilder", name := "append", desc := "(C)Ljava/lang/StringBuilder;" } : Jvm.MethodName) ({ cls := "java/lang/StringBuilder", name := "append", desc := "(C)Ljava/lang/StringBuilder;" } : Jvm.MethodName)) ∈ lw_all := lw_g (lw_at lw_m3 50 rfl) rfl
theorem q614 : (Jvm.Cond.code ({ cls := "java/lang/StringBuilder", name := "append", desc := "(C)Ljava/lang/StringBuilder;" } : Jvm.MethodName) prog_33_method_14_code (2 : Nat) (Option.some (Jvm.ClassFile.FieldType.object "java/lang/StringBuilder"))) ∈ lw_all := lw_g (lw_at lw_m3 51 rfl) rfl
theorem q615 : (Jvm.Cond.methodLink "java/lang/StringBuilder" (50 : Nat) ({ cls := "java/lang/AbstractStringBuilder", name := "append", desc := "(C)Ljava/lang/AbstractStringBuilder;" } : Jvm.MethodName)) ∈ lw_all := lw_g (lw_at lw_m3 52 rfl) rfl
theorem q641 : (Jvm.Cond.selects "java/lang/StringBuilder" ({ cls := "java/lang/AbstractStringBuilder", name := "isLatin1", desc := "()Z" } : Jvm.MethodName) ({ cls := "java/lang/AbstractStringBuilder", name := "isLatin1", desc := "()Z" } : Jvm.MethodName)) ∈ lw_all := lw_g (lw_at lw_m3 78 rfl) rfl
theorem q690 : (Jvm.Cond.instanceMethod ({ cls := "java/lang/StringBuilder", name := "toString", desc := "()Ljava/lang/String;" } : Jvm.MethodName)) ∈ lw_all := lw_g (lw_at lw_m3 127 rfl) rfl
theorem q691 : (Jvm.Cond.selects "java/lang/StringBuilder" ({ cls := "java/lang/StringBuilder", name := "toString", desc := "()Ljava/lang/String;" } : Jvm.MethodName) ({ cls := "java/lang/StringBuilder", name := "toString", desc := "()Ljava/lang/String;" } : Jvm.MethodName)) ∈ lw_all := lw_g (lw_at lw_m3 128 rfl) rfl
theorem q692 : (Jvm.Cond.code ({ cls := "java/lang/StringBuilder", name := "toString", desc := "()Ljava/lang/String;" } : Jvm.MethodName) prog_33_method_42_code (1 : Nat) (Option.some (Jvm.ClassFile.FieldType.object "java/lang/String"))) ∈ lw_all := lw_g (lw_at lw_m3 129 rfl) rfl
theorem q693 : (Jvm.Cond.classLink "java/lang/StringBuilder" (18 : Nat) "java/lang/String") ∈ lw_all := lw_g (lw_at lw_m3 130 rfl) rfl
theorem q695 : (Jvm.Cond.methodLink "java/lang/StringBuilder" (137 : Nat) ({ cls := "java/lang/String", name := "<init>", desc := "(Ljava/lang/StringBuilder;)V" } : Jvm.MethodName)) ∈ lw_all := lw_g (lw_at lw_m3 132 rfl) rfl
theorem q705 : (Jvm.Cond.selects "java/lang/StringBuilder" ({ cls := "java/lang/AbstractStringBuilder", name := "getValue", desc := "()[B" } : Jvm.MethodName) ({ cls := "java/lang/AbstractStringBuilder", name := "getValue", desc := "()[B" } : Jvm.MethodName)) ∈ lw_all := lw_g (lw_at lw_m3 142 rfl) rfl
theorem q710 : (Jvm.Cond.selects "java/lang/StringBuilder" ({ cls := "java/lang/AbstractStringBuilder", name := "length", desc := "()I" } : Jvm.MethodName) ({ cls := "java/lang/StringBuilder", name := "length", desc := "()I" } : Jvm.MethodName)) ∈ lw_all := lw_g (lw_at lw_m3 147 rfl) rfl
theorem q711 : (Jvm.Cond.instanceMethod ({ cls := "java/lang/StringBuilder", name := "length", desc := "()I" } : Jvm.MethodName)) ∈ lw_all := lw_g (lw_at lw_m3 148 rfl) rfl
theorem q712 : (Jvm.Cond.code ({ cls := "java/lang/StringBuilder", name := "length", desc := "()I" } : Jvm.MethodName) prog_33_method_93_code (1 : Nat) (Option.some Jvm.ClassFile.FieldType.int)) ∈ lw_all := lw_g (lw_at lw_m3 149 rfl) rfl
theorem q713 : (Jvm.Cond.methodLink "java/lang/StringBuilder" (343 : Nat) ({ cls := "java/lang/AbstractStringBuilder", name := "length", desc := "()I" } : Jvm.MethodName)) ∈ lw_all := lw_g (lw_at lw_m3 150 rfl) rfl
theorem q2128 : (Jvm.Cond.castable "java/lang/StringBuilder" "java/lang/Object") ∈ lw_tbl := lw_at lw_m9 125 rfl
theorem in_J10 : ∀ w ∈ wsJ100, w ∈ lw_all := lw_in wsJ100 [602, 604, 606, 608] (by decide +kernel) (by decide +kernel)

/-! java/lang/String -/
set_option maxRecDepth 100000
def RJ11 : String := "java/lang/String"
def TJ11 : u_T := fun k => match k with
  | 0 => ("java/lang/String", "value", "[B", true)
  | 1 => ("java/lang/String", "coder", "B", true)
  | 2 => ("java/lang/String", "hash", "I", false)
  | _ => ("java/lang/String", "hashIsZero", "Z", false)
def tyJ11 : Nat → FieldType := fun k => match k with
  | 0 => .array .byte
  | 1 => .byte
  | 2 => .int
  | _ => .boolean
abbrev wsJ110 : List Cond := u_ws RJ11 TJ11 4
theorem nmJ11 : ∀ a, a < 4 → ∀ b, b < 4 → a ≠ b → (TJ11 a).2.1 ≠ (TJ11 b).2.1 := by decide +kernel
theorem tyJ11_ok : ∀ k, k < 4 → parseFieldDescriptor (TJ11 k).2.2.1 = some (tyJ11 k) := by decide +kernel
abbrev cJ11_checkBoundsOffCount : ByteArray := prog_32_method_157_code
def yJ11_checkBoundsOffCount : MethodName := ⟨RJ11, "checkBoundsOffCount", "(III)I"⟩
abbrev cJ11_checkIndex : ByteArray := prog_32_method_155_code
def yJ11_checkIndex : MethodName := ⟨RJ11, "checkIndex", "(II)V"⟩
abbrev cJ11_init : ByteArray := prog_32_method_53_code
def yJ11_init : MethodName := ⟨RJ11, "<init>", "(Ljava/lang/StringBuilder;)V"⟩
abbrev cJ11_init_2 : ByteArray := prog_32_method_150_code
def yJ11_init_2 : MethodName := ⟨RJ11, "<init>", "(Ljava/lang/AbstractStringBuilder;Ljava/lang/Void;)V"⟩
abbrev cJ11_hashCode : ByteArray := prog_32_method_78_code
def yJ11_hashCode : MethodName := ⟨RJ11, "hashCode", "()I"⟩
abbrev cJ11_isLatin1 : ByteArray := prog_32_method_154_code
def yJ11_isLatin1 : MethodName := ⟨RJ11, "isLatin1", "()Z"⟩
abbrev cJ11_equals : ByteArray := prog_32_method_66_code
def yJ11_equals : MethodName := ⟨RJ11, "equals", "(Ljava/lang/Object;)Z"⟩
theorem q107 : (Jvm.Cond.initialized "java/lang/String") ∈ lw_all := lw_g (lw_at lw_m1 24 rfl) rfl
theorem q488 : (Jvm.Cond.selects "java/lang/String" ({ cls := "java/lang/Object", name := "getClass", desc := "()Ljava/lang/Class;" } : Jvm.MethodName) ({ cls := "java/lang/Object", name := "getClass", desc := "()Ljava/lang/Class;" } : Jvm.MethodName)) ∈ lw_all := lw_g (lw_at lw_m2 165 rfl) rfl
theorem q590 : (Jvm.Cond.laysStatic "java/lang/String" "COMPACT_STRINGS" "Z") ∈ lw_tbl := lw_at lw_m3 27 rfl
theorem q600 : (Jvm.Cond.fieldLink "java/lang/String" (1048 : Nat) "java/lang/AbstractStringBuilder" "maybeLatin1" "Z") ∈ lw_all := lw_g (lw_at lw_m3 37 rfl) rfl
theorem q663 : (Jvm.Cond.static ({ cls := "java/lang/String", name := "checkBoundsOffCount", desc := "(III)I" } : Jvm.MethodName)) ∈ lw_all := lw_g (lw_at lw_m3 100 rfl) rfl
theorem q664 : (Jvm.Cond.code ({ cls := "java/lang/String", name := "checkBoundsOffCount", desc := "(III)I" } : Jvm.MethodName) prog_32_method_157_code (3 : Nat) (Option.some Jvm.ClassFile.FieldType.int)) ∈ lw_all := lw_g (lw_at lw_m3 101 rfl) rfl
theorem q665 : (Jvm.Cond.fieldLink "java/lang/String" (1053 : Nat) "jdk/internal/util/Preconditions" "SIOOBE_FORMATTER" "Ljava/util/function/BiFunction;") ∈ lw_all := lw_g (lw_at lw_m3 102 rfl) rfl
theorem q667 : (Jvm.Cond.methodLink "java/lang/String" (1065 : Nat) ({ cls := "jdk/internal/util/Preconditions", name := "checkFromIndexSize", desc := "(IIILjava/util/function/BiFunction;)I" } : Jvm.MethodName)) ∈ lw_all := lw_g (lw_at lw_m3 104 rfl) rfl
theorem q686 : (Jvm.Cond.static ({ cls := "java/lang/String", name := "checkIndex", desc := "(II)V" } : Jvm.MethodName)) ∈ lw_all := lw_g (lw_at lw_m3 123 rfl) rfl
theorem q687 : (Jvm.Cond.code ({ cls := "java/lang/String", name := "checkIndex", desc := "(II)V" } : Jvm.MethodName) prog_32_method_155_code (2 : Nat) (Option.none : Option Jvm.ClassFile.FieldType)) ∈ lw_all := lw_g (lw_at lw_m3 124 rfl) rfl
theorem q688 : (Jvm.Cond.methodLink "java/lang/String" (1059 : Nat) ({ cls := "jdk/internal/util/Preconditions", name := "checkIndex", desc := "(IILjava/util/function/BiFunction;)I" } : Jvm.MethodName)) ∈ lw_all := lw_g (lw_at lw_m3 125 rfl) rfl
theorem q694 : (Jvm.Cond.instantiable "java/lang/String" (4 : Nat)) ∈ lw_all := lw_g (lw_at lw_m3 131 rfl) rfl
theorem q696 : (Jvm.Cond.instanceMethod ({ cls := "java/lang/String", name := "<init>", desc := "(Ljava/lang/StringBuilder;)V" } : Jvm.MethodName)) ∈ lw_all := lw_g (lw_at lw_m3 133 rfl) rfl
theorem q697 : (Jvm.Cond.code ({ cls := "java/lang/String", name := "<init>", desc := "(Ljava/lang/StringBuilder;)V" } : Jvm.MethodName) prog_32_method_53_code (2 : Nat) (Option.none : Option Jvm.ClassFile.FieldType)) ∈ lw_all := lw_g (lw_at lw_m3 134 rfl) rfl
theorem q698 : (Jvm.Cond.methodLink "java/lang/String" (489 : Nat) ({ cls := "java/lang/String", name := "<init>", desc := "(Ljava/lang/AbstractStringBuilder;Ljava/lang/Void;)V" } : Jvm.MethodName)) ∈ lw_all := lw_g (lw_at lw_m3 135 rfl) rfl
theorem q699 : (Jvm.Cond.instanceMethod ({ cls := "java/lang/String", name := "<init>", desc := "(Ljava/lang/AbstractStringBuilder;Ljava/lang/Void;)V" } : Jvm.MethodName)) ∈ lw_all := lw_g (lw_at lw_m3 136 rfl) rfl
theorem q700 : (Jvm.Cond.code ({ cls := "java/lang/String", name := "<init>", desc := "(Ljava/lang/AbstractStringBuilder;Ljava/lang/Void;)V" } : Jvm.MethodName) prog_32_method_150_code (5 : Nat) (Option.none : Option Jvm.ClassFile.FieldType)) ∈ lw_all := lw_g (lw_at lw_m3 137 rfl) rfl
theorem q701 : (Jvm.Cond.methodLink "java/lang/String" (1 : Nat) ({ cls := "java/lang/Object", name := "<init>", desc := "()V" } : Jvm.MethodName)) ∈ lw_all := lw_g (lw_at lw_m3 138 rfl) rfl
theorem q702 : (Jvm.Cond.methodLink "java/lang/String" (552 : Nat) ({ cls := "java/lang/AbstractStringBuilder", name := "getValue", desc := "()[B" } : Jvm.MethodName)) ∈ lw_all := lw_g (lw_at lw_m3 139 rfl) rfl
theorem q707 : (Jvm.Cond.methodLink "java/lang/String" (549 : Nat) ({ cls := "java/lang/AbstractStringBuilder", name := "length", desc := "()I" } : Jvm.MethodName)) ∈ lw_all := lw_g (lw_at lw_m3 144 rfl) rfl
theorem q715 : (Jvm.Cond.methodLink "java/lang/String" (1047 : Nat) ({ cls := "java/lang/AbstractStringBuilder", name := "isLatin1", desc := "()Z" } : Jvm.MethodName)) ∈ lw_all := lw_g (lw_at lw_m3 152 rfl) rfl
theorem q716 : (Jvm.Cond.methodLink "java/lang/String" (54 : Nat) ({ cls := "java/util/Arrays", name := "copyOfRange", desc := "([BII)[B" } : Jvm.MethodName)) ∈ lw_all := lw_g (lw_at lw_m3 153 rfl) rfl
theorem q725 : (Jvm.Cond.fieldLink "java/lang/String" (38 : Nat) "java/lang/String" "COMPACT_STRINGS" "Z") ∈ lw_all := lw_g (lw_at lw_m3 162 rfl) rfl
theorem q726 : (Jvm.Cond.methodLink "java/lang/String" (1051 : Nat) ({ cls := "java/lang/StringUTF16", name := "compress", desc := "([BII)[B" } : Jvm.MethodName)) ∈ lw_all := lw_g (lw_at lw_m3 163 rfl) rfl
theorem q736 : (Jvm.Cond.methodLink "java/lang/String" (47 : Nat) ({ cls := "java/lang/StringUTF16", name := "coderFromArrayLen", desc := "([BI)B" } : Jvm.MethodName)) ∈ lw_all := lw_g (lw_at lw_m3 173 rfl) rfl
theorem q739 : (Jvm.Cond.fieldLink "java/lang/String" (9 : Nat) "java/lang/String" "value" "[B") ∈ lw_all := lw_g (lw_at lw_m3 176 rfl) rfl
theorem q740 : (Jvm.Cond.fieldLink "java/lang/String" (15 : Nat) "java/lang/String" "coder" "B") ∈ lw_all := lw_g (lw_at lw_m3 177 rfl) rfl
theorem q741 : (Jvm.Cond.fieldLink "java/lang/String" (19 : Nat) "java/lang/String" "hash" "I") ∈ lw_all := lw_g (lw_at lw_m3 178 rfl) rfl
theorem q742 : (Jvm.Cond.fieldLink "java/lang/String" (23 : Nat) "java/lang/String" "hashIsZero" "Z") ∈ lw_all := lw_g (lw_at lw_m3 179 rfl) rfl
theorem q743 : (Jvm.Cond.laysFinal "java/lang/String" "java/lang/String" "value" "[B") ∈ lw_all := lw_g (lw_at lw_m3 180 rfl) rfl
theorem q744 : (Jvm.Cond.soleField "java/lang/String" "value") ∈ lw_all := lw_g (lw_at lw_m3 181 rfl) rfl
theorem q745 : (Jvm.Cond.laysFinal "java/lang/String" "java/lang/String" "coder" "B") ∈ lw_all := lw_g (lw_at lw_m3 182 rfl) rfl
theorem q746 : (Jvm.Cond.soleField "java/lang/String" "coder") ∈ lw_all := lw_g (lw_at lw_m3 183 rfl) rfl
theorem q747 : (Jvm.Cond.lays "java/lang/String" "java/lang/String" "hash" "I") ∈ lw_all := lw_g (lw_at lw_m3 184 rfl) rfl
theorem q748 : (Jvm.Cond.soleField "java/lang/String" "hash") ∈ lw_all := lw_g (lw_at lw_m3 185 rfl) rfl
theorem q749 : (Jvm.Cond.lays "java/lang/String" "java/lang/String" "hashIsZero" "Z") ∈ lw_all := lw_g (lw_at lw_m3 186 rfl) rfl
theorem q750 : (Jvm.Cond.soleField "java/lang/String" "hashIsZero") ∈ lw_all := lw_g (lw_at lw_m3 187 rfl) rfl
theorem q751 : (Jvm.Cond.superclass "java/lang/String" "java/lang/Object") ∈ lw_all := lw_g (lw_at lw_m3 188 rfl) rfl
theorem q832 : (Jvm.Cond.instanceMethod ({ cls := "java/lang/String", name := "hashCode", desc := "()I" } : Jvm.MethodName)) ∈ lw_all := lw_g (lw_at lw_m4 29 rfl) rfl
theorem q833 : (Jvm.Cond.selects "java/lang/String" ({ cls := "java/lang/String", name := "hashCode", desc := "()I" } : Jvm.MethodName) ({ cls := "java/lang/String", name := "hashCode", desc := "()I" } : Jvm.MethodName)) ∈ lw_all := lw_g (lw_at lw_m4 30 rfl) rfl
theorem q834 : (Jvm.Cond.code ({ cls := "java/lang/String", name := "hashCode", desc := "()I" } : Jvm.MethodName) prog_32_method_78_code (2 : Nat) (Option.some Jvm.ClassFile.FieldType.int)) ∈ lw_all := lw_g (lw_at lw_m4 31 rfl) rfl
theorem q835 : (Jvm.Cond.methodLink "java/lang/String" (492 : Nat) ({ cls := "java/lang/String", name := "isLatin1", desc := "()Z" } : Jvm.MethodName)) ∈ lw_all := lw_g (lw_at lw_m4 32 rfl) rfl
theorem q836 : (Jvm.Cond.instanceMethod ({ cls := "java/lang/String", name := "isLatin1", desc := "()Z" } : Jvm.MethodName)) ∈ lw_all := lw_g (lw_at lw_m4 33 rfl) rfl
theorem q837 : (Jvm.Cond.selects "java/lang/String" ({ cls := "java/lang/String", name := "isLatin1", desc := "()Z" } : Jvm.MethodName) ({ cls := "java/lang/String", name := "isLatin1", desc := "()Z" } : Jvm.MethodName)) ∈ lw_all := lw_g (lw_at lw_m4 34 rfl) rfl
theorem q838 : (Jvm.Cond.code ({ cls := "java/lang/String", name := "isLatin1", desc := "()Z" } : Jvm.MethodName) prog_32_method_154_code (1 : Nat) (Option.some Jvm.ClassFile.FieldType.boolean)) ∈ lw_all := lw_g (lw_at lw_m4 35 rfl) rfl
theorem q839 : (Jvm.Cond.methodLink "java/lang/String" (628 : Nat) ({ cls := "java/lang/StringLatin1", name := "hashCode", desc := "([B)I" } : Jvm.MethodName)) ∈ lw_all := lw_g (lw_at lw_m4 36 rfl) rfl
theorem q880 : (Jvm.Cond.methodLink "java/lang/String" (632 : Nat) ({ cls := "java/lang/StringUTF16", name := "hashCode", desc := "([B)I" } : Jvm.MethodName)) ∈ lw_all := lw_g (lw_at lw_m4 77 rfl) rfl
theorem q886 : (Jvm.Cond.instanceMethod ({ cls := "java/lang/String", name := "equals", desc := "(Ljava/lang/Object;)Z" } : Jvm.MethodName)) ∈ lw_all := lw_g (lw_at lw_m4 83 rfl) rfl
theorem q887 : (Jvm.Cond.selects "java/lang/String" ({ cls := "java/lang/String", name := "equals", desc := "(Ljava/lang/Object;)Z" } : Jvm.MethodName) ({ cls := "java/lang/String", name := "equals", desc := "(Ljava/lang/Object;)Z" } : Jvm.MethodName)) ∈ lw_all := lw_g (lw_at lw_m4 84 rfl) rfl
theorem q888 : (Jvm.Cond.code ({ cls := "java/lang/String", name := "equals", desc := "(Ljava/lang/Object;)Z" } : Jvm.MethodName) prog_32_method_66_code (3 : Nat) (Option.some Jvm.ClassFile.FieldType.boolean)) ∈ lw_all := lw_g (lw_at lw_m4 85 rfl) rfl
theorem q889 : (Jvm.Cond.classLink "java/lang/String" (10 : Nat) "java/lang/String") ∈ lw_all := lw_g (lw_at lw_m4 86 rfl) rfl
theorem q890 : (Jvm.Cond.methodLink "java/lang/String" (541 : Nat) ({ cls := "java/lang/StringLatin1", name := "equals", desc := "([B[B)Z" } : Jvm.MethodName)) ∈ lw_all := lw_g (lw_at lw_m4 87 rfl) rfl
theorem q2115 : (Jvm.Cond.castable "java/lang/String" "java/lang/Object") ∈ lw_tbl := lw_at lw_m9 112 rfl
theorem in_J11 : ∀ w ∈ wsJ110, w ∈ lw_all := lw_in wsJ110 [743, 745, 747, 749] (by decide +kernel) (by decide +kernel)

/-! java/lang/StringUTF16 -/
set_option maxRecDepth 100000
def RJ12 : String := "java/lang/StringUTF16"
abbrev cJ12_newBytesFor : ByteArray := prog_35_method_2_code
def yJ12_newBytesFor : MethodName := ⟨RJ12, "newBytesFor", "(I)[B"⟩
abbrev cJ12_newBytesLength : ByteArray := prog_35_method_3_code
def yJ12_newBytesLength : MethodName := ⟨RJ12, "newBytesLength", "(I)I"⟩
abbrev cJ12_inflate : ByteArray := prog_35_method_86_code
def yJ12_inflate : MethodName := ⟨RJ12, "inflate", "([BI[BII)V"⟩
abbrev cJ12_checkBoundsOffCount : ByteArray := prog_35_method_94_code
def yJ12_checkBoundsOffCount : MethodName := ⟨RJ12, "checkBoundsOffCount", "(II[B)V"⟩
abbrev cJ12_length : ByteArray := prog_35_method_6_code
def yJ12_length : MethodName := ⟨RJ12, "length", "([B)I"⟩
abbrev cJ12_putChar : ByteArray := prog_35_method_4_code
def yJ12_putChar : MethodName := ⟨RJ12, "putChar", "([BII)V"⟩
abbrev cJ12_putCharSB : ByteArray := prog_35_method_71_code
def yJ12_putCharSB : MethodName := ⟨RJ12, "putCharSB", "([BII)V"⟩
abbrev cJ12_checkIndex : ByteArray := prog_35_method_91_code
def yJ12_checkIndex : MethodName := ⟨RJ12, "checkIndex", "(I[B)V"⟩
abbrev cJ12_compress : ByteArray := prog_35_method_17_code
def yJ12_compress : MethodName := ⟨RJ12, "compress", "([BII)[B"⟩
abbrev cJ12_compress_2 : ByteArray := prog_35_method_22_code
def yJ12_compress_2 : MethodName := ⟨RJ12, "compress", "([BI[BII)I"⟩
abbrev cJ12_getChar : ByteArray := prog_35_method_5_code
def yJ12_getChar : MethodName := ⟨RJ12, "getChar", "([BI)C"⟩
abbrev cJ12_coderFromArrayLen : ByteArray := prog_35_method_15_code
def yJ12_coderFromArrayLen : MethodName := ⟨RJ12, "coderFromArrayLen", "([BI)B"⟩
abbrev cJ12_hashCode : ByteArray := prog_35_method_39_code
def yJ12_hashCode : MethodName := ⟨RJ12, "hashCode", "([B)I"⟩
theorem q108 : (Jvm.Cond.initialized "java/lang/StringUTF16") ∈ lw_all := lw_g (lw_at lw_m1 25 rfl) rfl
theorem q592 : (Jvm.Cond.static ({ cls := "java/lang/StringUTF16", name := "newBytesFor", desc := "(I)[B" } : Jvm.MethodName)) ∈ lw_all := lw_g (lw_at lw_m3 29 rfl) rfl
theorem q593 : (Jvm.Cond.code ({ cls := "java/lang/StringUTF16", name := "newBytesFor", desc := "(I)[B" } : Jvm.MethodName) prog_35_method_2_code (1 : Nat) (Option.some (Jvm.ClassFile.FieldType.array Jvm.ClassFile.FieldType.byte))) ∈ lw_all := lw_g (lw_at lw_m3 30 rfl) rfl
theorem q594 : (Jvm.Cond.methodLink "java/lang/StringUTF16" (11 : Nat) ({ cls := "java/lang/StringUTF16", name := "newBytesLength", desc := "(I)I" } : Jvm.MethodName)) ∈ lw_all := lw_g (lw_at lw_m3 31 rfl) rfl
theorem q595 : (Jvm.Cond.static ({ cls := "java/lang/StringUTF16", name := "newBytesLength", desc := "(I)I" } : Jvm.MethodName)) ∈ lw_all := lw_g (lw_at lw_m3 32 rfl) rfl
theorem q596 : (Jvm.Cond.code ({ cls := "java/lang/StringUTF16", name := "newBytesLength", desc := "(I)I" } : Jvm.MethodName) prog_35_method_3_code (1 : Nat) (Option.some Jvm.ClassFile.FieldType.int)) ∈ lw_all := lw_g (lw_at lw_m3 33 rfl) rfl
theorem q597 : (Jvm.Cond.constant "java/lang/StringUTF16" (20 : Nat) (1073741823 : Int32)) ∈ lw_all := lw_g (lw_at lw_m3 34 rfl) rfl
theorem q654 : (Jvm.Cond.static ({ cls := "java/lang/StringUTF16", name := "inflate", desc := "([BI[BII)V" } : Jvm.MethodName)) ∈ lw_all := lw_g (lw_at lw_m3 91 rfl) rfl
theorem q655 : (Jvm.Cond.code ({ cls := "java/lang/StringUTF16", name := "inflate", desc := "([BI[BII)V" } : Jvm.MethodName) prog_35_method_86_code (6 : Nat) (Option.none : Option Jvm.ClassFile.FieldType)) ∈ lw_all := lw_g (lw_at lw_m3 92 rfl) rfl
theorem q656 : (Jvm.Cond.methodLink "java/lang/StringUTF16" (173 : Nat) ({ cls := "java/lang/StringUTF16", name := "checkBoundsOffCount", desc := "(II[B)V" } : Jvm.MethodName)) ∈ lw_all := lw_g (lw_at lw_m3 93 rfl) rfl
theorem q657 : (Jvm.Cond.static ({ cls := "java/lang/StringUTF16", name := "checkBoundsOffCount", desc := "(II[B)V" } : Jvm.MethodName)) ∈ lw_all := lw_g (lw_at lw_m3 94 rfl) rfl
theorem q658 : (Jvm.Cond.code ({ cls := "java/lang/StringUTF16", name := "checkBoundsOffCount", desc := "(II[B)V" } : Jvm.MethodName) prog_35_method_94_code (3 : Nat) (Option.none : Option Jvm.ClassFile.FieldType)) ∈ lw_all := lw_g (lw_at lw_m3 95 rfl) rfl
theorem q659 : (Jvm.Cond.methodLink "java/lang/StringUTF16" (48 : Nat) ({ cls := "java/lang/StringUTF16", name := "length", desc := "([B)I" } : Jvm.MethodName)) ∈ lw_all := lw_g (lw_at lw_m3 96 rfl) rfl
theorem q660 : (Jvm.Cond.static ({ cls := "java/lang/StringUTF16", name := "length", desc := "([B)I" } : Jvm.MethodName)) ∈ lw_all := lw_g (lw_at lw_m3 97 rfl) rfl
theorem q661 : (Jvm.Cond.code ({ cls := "java/lang/StringUTF16", name := "length", desc := "([B)I" } : Jvm.MethodName) prog_35_method_6_code (1 : Nat) (Option.some Jvm.ClassFile.FieldType.int)) ∈ lw_all := lw_g (lw_at lw_m3 98 rfl) rfl
theorem q662 : (Jvm.Cond.methodLink "java/lang/StringUTF16" (419 : Nat) ({ cls := "java/lang/String", name := "checkBoundsOffCount", desc := "(III)I" } : Jvm.MethodName)) ∈ lw_all := lw_g (lw_at lw_m3 99 rfl) rfl
theorem q670 : (Jvm.Cond.methodLink "java/lang/StringUTF16" (111 : Nat) ({ cls := "java/lang/StringUTF16", name := "putChar", desc := "([BII)V" } : Jvm.MethodName)) ∈ lw_all := lw_g (lw_at lw_m3 107 rfl) rfl
theorem q671 : (Jvm.Cond.static ({ cls := "java/lang/StringUTF16", name := "putChar", desc := "([BII)V" } : Jvm.MethodName)) ∈ lw_all := lw_g (lw_at lw_m3 108 rfl) rfl
theorem q672 : (Jvm.Cond.code ({ cls := "java/lang/StringUTF16", name := "putChar", desc := "([BII)V" } : Jvm.MethodName) prog_35_method_4_code (3 : Nat) (Option.none : Option Jvm.ClassFile.FieldType)) ∈ lw_all := lw_g (lw_at lw_m3 109 rfl) rfl
theorem q673 : (Jvm.Cond.fieldLink "java/lang/StringUTF16" (44 : Nat) "java/lang/StringUTF16" "$assertionsDisabled" "Z") ∈ lw_all := lw_g (lw_at lw_m3 110 rfl) rfl
theorem q674 : (Jvm.Cond.laysStatic "java/lang/StringUTF16" "$assertionsDisabled" "Z") ∈ lw_tbl := lw_at lw_m3 111 rfl
theorem q675 : (Jvm.Cond.fieldLink "java/lang/StringUTF16" (59 : Nat) "java/lang/StringUTF16" "HI_BYTE_SHIFT" "I") ∈ lw_all := lw_g (lw_at lw_m3 112 rfl) rfl
theorem q676 : (Jvm.Cond.laysStatic "java/lang/StringUTF16" "HI_BYTE_SHIFT" "I") ∈ lw_tbl := lw_at lw_m3 113 rfl
theorem q677 : (Jvm.Cond.fieldLink "java/lang/StringUTF16" (63 : Nat) "java/lang/StringUTF16" "LO_BYTE_SHIFT" "I") ∈ lw_all := lw_g (lw_at lw_m3 114 rfl) rfl
theorem q678 : (Jvm.Cond.laysStatic "java/lang/StringUTF16" "LO_BYTE_SHIFT" "I") ∈ lw_tbl := lw_at lw_m3 115 rfl
theorem q680 : (Jvm.Cond.static ({ cls := "java/lang/StringUTF16", name := "putCharSB", desc := "([BII)V" } : Jvm.MethodName)) ∈ lw_all := lw_g (lw_at lw_m3 117 rfl) rfl
theorem q681 : (Jvm.Cond.code ({ cls := "java/lang/StringUTF16", name := "putCharSB", desc := "([BII)V" } : Jvm.MethodName) prog_35_method_71_code (3 : Nat) (Option.none : Option Jvm.ClassFile.FieldType)) ∈ lw_all := lw_g (lw_at lw_m3 118 rfl) rfl
theorem q682 : (Jvm.Cond.methodLink "java/lang/StringUTF16" (67 : Nat) ({ cls := "java/lang/StringUTF16", name := "checkIndex", desc := "(I[B)V" } : Jvm.MethodName)) ∈ lw_all := lw_g (lw_at lw_m3 119 rfl) rfl
theorem q683 : (Jvm.Cond.static ({ cls := "java/lang/StringUTF16", name := "checkIndex", desc := "(I[B)V" } : Jvm.MethodName)) ∈ lw_all := lw_g (lw_at lw_m3 120 rfl) rfl
theorem q684 : (Jvm.Cond.code ({ cls := "java/lang/StringUTF16", name := "checkIndex", desc := "(I[B)V" } : Jvm.MethodName) prog_35_method_91_code (2 : Nat) (Option.none : Option Jvm.ClassFile.FieldType)) ∈ lw_all := lw_g (lw_at lw_m3 121 rfl) rfl
theorem q685 : (Jvm.Cond.methodLink "java/lang/StringUTF16" (414 : Nat) ({ cls := "java/lang/String", name := "checkIndex", desc := "(II)V" } : Jvm.MethodName)) ∈ lw_all := lw_g (lw_at lw_m3 122 rfl) rfl
theorem q727 : (Jvm.Cond.static ({ cls := "java/lang/StringUTF16", name := "compress", desc := "([BII)[B" } : Jvm.MethodName)) ∈ lw_all := lw_g (lw_at lw_m3 164 rfl) rfl
theorem q728 : (Jvm.Cond.code ({ cls := "java/lang/StringUTF16", name := "compress", desc := "([BII)[B" } : Jvm.MethodName) prog_35_method_17_code (6 : Nat) (Option.some (Jvm.ClassFile.FieldType.array Jvm.ClassFile.FieldType.byte))) ∈ lw_all := lw_g (lw_at lw_m3 165 rfl) rfl
theorem q729 : (Jvm.Cond.methodLink "java/lang/StringUTF16" (123 : Nat) ({ cls := "java/lang/StringUTF16", name := "compress", desc := "([BI[BII)I" } : Jvm.MethodName)) ∈ lw_all := lw_g (lw_at lw_m3 166 rfl) rfl
theorem q730 : (Jvm.Cond.static ({ cls := "java/lang/StringUTF16", name := "compress", desc := "([BI[BII)I" } : Jvm.MethodName)) ∈ lw_all := lw_g (lw_at lw_m3 167 rfl) rfl
theorem q731 : (Jvm.Cond.code ({ cls := "java/lang/StringUTF16", name := "compress", desc := "([BI[BII)I" } : Jvm.MethodName) prog_35_method_22_code (7 : Nat) (Option.some Jvm.ClassFile.FieldType.int)) ∈ lw_all := lw_g (lw_at lw_m3 168 rfl) rfl
theorem q732 : (Jvm.Cond.methodLink "java/lang/StringUTF16" (71 : Nat) ({ cls := "java/lang/StringUTF16", name := "getChar", desc := "([BI)C" } : Jvm.MethodName)) ∈ lw_all := lw_g (lw_at lw_m3 169 rfl) rfl
theorem q733 : (Jvm.Cond.static ({ cls := "java/lang/StringUTF16", name := "getChar", desc := "([BI)C" } : Jvm.MethodName)) ∈ lw_all := lw_g (lw_at lw_m3 170 rfl) rfl
theorem q734 : (Jvm.Cond.code ({ cls := "java/lang/StringUTF16", name := "getChar", desc := "([BI)C" } : Jvm.MethodName) prog_35_method_5_code (2 : Nat) (Option.some Jvm.ClassFile.FieldType.char)) ∈ lw_all := lw_g (lw_at lw_m3 171 rfl) rfl
theorem q735 : (Jvm.Cond.methodLink "java/lang/StringUTF16" (126 : Nat) ({ cls := "java/util/Arrays", name := "copyOfRange", desc := "([BII)[B" } : Jvm.MethodName)) ∈ lw_all := lw_g (lw_at lw_m3 172 rfl) rfl
theorem q737 : (Jvm.Cond.static ({ cls := "java/lang/StringUTF16", name := "coderFromArrayLen", desc := "([BI)B" } : Jvm.MethodName)) ∈ lw_all := lw_g (lw_at lw_m3 174 rfl) rfl
theorem q738 : (Jvm.Cond.code ({ cls := "java/lang/StringUTF16", name := "coderFromArrayLen", desc := "([BI)B" } : Jvm.MethodName) prog_35_method_15_code (2 : Nat) (Option.some Jvm.ClassFile.FieldType.byte)) ∈ lw_all := lw_g (lw_at lw_m3 175 rfl) rfl
theorem q881 : (Jvm.Cond.static ({ cls := "java/lang/StringUTF16", name := "hashCode", desc := "([B)I" } : Jvm.MethodName)) ∈ lw_all := lw_g (lw_at lw_m4 78 rfl) rfl
theorem q882 : (Jvm.Cond.code ({ cls := "java/lang/StringUTF16", name := "hashCode", desc := "([B)I" } : Jvm.MethodName) prog_35_method_39_code (1 : Nat) (Option.some Jvm.ClassFile.FieldType.int)) ∈ lw_all := lw_g (lw_at lw_m4 79 rfl) rfl
theorem q883 : (Jvm.Cond.methodLink "java/lang/StringUTF16" (220 : Nat) ({ cls := "jdk/internal/util/ArraysSupport", name := "vectorizedHashCode", desc := "(Ljava/lang/Object;IIII)I" } : Jvm.MethodName)) ∈ lw_all := lw_g (lw_at lw_m4 80 rfl) rfl

/-! java/lang/StringLatin1 -/
set_option maxRecDepth 100000
def RJ13 : String := "java/lang/StringLatin1"
abbrev cJ13_canEncode : ByteArray := prog_34_method_3_code
def yJ13_canEncode : MethodName := ⟨RJ13, "canEncode", "(C)Z"⟩
abbrev cJ13_inflate : ByteArray := prog_34_method_50_code
def yJ13_inflate : MethodName := ⟨RJ13, "inflate", "([BI[BII)V"⟩
abbrev cJ13_hashCode : ByteArray := prog_34_method_21_code
def yJ13_hashCode : MethodName := ⟨RJ13, "hashCode", "([B)I"⟩
abbrev cJ13_equals : ByteArray := prog_34_method_13_code
def yJ13_equals : MethodName := ⟨RJ13, "equals", "([B[B)Z"⟩
theorem q109 : (Jvm.Cond.initialized "java/lang/StringLatin1") ∈ lw_all := lw_g (lw_at lw_m1 26 rfl) rfl
theorem q644 : (Jvm.Cond.static ({ cls := "java/lang/StringLatin1", name := "canEncode", desc := "(C)Z" } : Jvm.MethodName)) ∈ lw_all := lw_g (lw_at lw_m3 81 rfl) rfl
theorem q645 : (Jvm.Cond.code ({ cls := "java/lang/StringLatin1", name := "canEncode", desc := "(C)Z" } : Jvm.MethodName) prog_34_method_3_code (1 : Nat) (Option.some Jvm.ClassFile.FieldType.boolean)) ∈ lw_all := lw_g (lw_at lw_m3 82 rfl) rfl
theorem q651 : (Jvm.Cond.static ({ cls := "java/lang/StringLatin1", name := "inflate", desc := "([BI[BII)V" } : Jvm.MethodName)) ∈ lw_all := lw_g (lw_at lw_m3 88 rfl) rfl
theorem q652 : (Jvm.Cond.code ({ cls := "java/lang/StringLatin1", name := "inflate", desc := "([BI[BII)V" } : Jvm.MethodName) prog_34_method_50_code (5 : Nat) (Option.none : Option Jvm.ClassFile.FieldType)) ∈ lw_all := lw_g (lw_at lw_m3 89 rfl) rfl
theorem q653 : (Jvm.Cond.methodLink "java/lang/StringLatin1" (240 : Nat) ({ cls := "java/lang/StringUTF16", name := "inflate", desc := "([BI[BII)V" } : Jvm.MethodName)) ∈ lw_all := lw_g (lw_at lw_m3 90 rfl) rfl
theorem q840 : (Jvm.Cond.static ({ cls := "java/lang/StringLatin1", name := "hashCode", desc := "([B)I" } : Jvm.MethodName)) ∈ lw_all := lw_g (lw_at lw_m4 37 rfl) rfl
theorem q841 : (Jvm.Cond.code ({ cls := "java/lang/StringLatin1", name := "hashCode", desc := "([B)I" } : Jvm.MethodName) prog_34_method_21_code (1 : Nat) (Option.some Jvm.ClassFile.FieldType.int)) ∈ lw_all := lw_g (lw_at lw_m4 38 rfl) rfl
theorem q842 : (Jvm.Cond.methodLink "java/lang/StringLatin1" (84 : Nat) ({ cls := "jdk/internal/util/ArraysSupport", name := "vectorizedHashCode", desc := "(Ljava/lang/Object;IIII)I" } : Jvm.MethodName)) ∈ lw_all := lw_g (lw_at lw_m4 39 rfl) rfl
theorem q891 : (Jvm.Cond.static ({ cls := "java/lang/StringLatin1", name := "equals", desc := "([B[B)Z" } : Jvm.MethodName)) ∈ lw_all := lw_g (lw_at lw_m4 88 rfl) rfl
theorem q892 : (Jvm.Cond.code ({ cls := "java/lang/StringLatin1", name := "equals", desc := "([B[B)Z" } : Jvm.MethodName) prog_34_method_13_code (3 : Nat) (Option.some Jvm.ClassFile.FieldType.boolean)) ∈ lw_all := lw_g (lw_at lw_m4 89 rfl) rfl

/-! java/lang/Throwable -/
set_option maxRecDepth 100000
def RJ14 : String := "java/lang/Throwable"
def TJ14 : u_T := fun k => match k with
  | 0 => ("java/lang/Throwable", "cause", "Ljava/lang/Throwable;", false)
  | 1 => ("java/lang/Throwable", "stackTrace", "[Ljava/lang/StackTraceElement;", false)
  | 2 => ("java/lang/Throwable", "suppressedExceptions", "Ljava/util/List;", false)
  | 3 => ("java/lang/Throwable", "detailMessage", "Ljava/lang/String;", false)
  | _ => ("java/lang/Throwable", "backtrace", "Ljava/lang/Object;", false)
def tyJ14 : Nat → FieldType := fun k => match k with
  | 0 => .object "java/lang/Throwable"
  | 1 => .array (.object "java/lang/StackTraceElement")
  | 2 => .object "java/util/List"
  | 3 => .object "java/lang/String"
  | _ => .object "java/lang/Object"
abbrev wsJ140 : List Cond := u_ws RJ14 TJ14 5
theorem nmJ14 : ∀ a, a < 5 → ∀ b, b < 5 → a ≠ b → (TJ14 a).2.1 ≠ (TJ14 b).2.1 := by decide +kernel
theorem tyJ14_ok : ∀ k, k < 5 → parseFieldDescriptor (TJ14 k).2.2.1 = some (tyJ14 k) := by decide +kernel
abbrev cJ14_init : ByteArray := prog_38_method_1_code
def yJ14_init : MethodName := ⟨RJ14, "<init>", "()V"⟩
abbrev cJ14_init_2 : ByteArray := prog_38_method_5_code
def yJ14_init_2 : MethodName := ⟨RJ14, "<init>", "(Ljava/lang/String;Ljava/lang/Throwable;ZZ)V"⟩
theorem q110 : (Jvm.Cond.initialized "java/lang/Throwable") ∈ lw_all := lw_g (lw_at lw_m1 27 rfl) rfl
theorem q766 : (Jvm.Cond.declares ({ cls := "java/lang/Throwable", name := "<init>", desc := "()V" } : Jvm.MethodName)) ∈ lw_tbl := lw_at lw_m3 203 rfl
theorem q767 : (Jvm.Cond.declares ({ cls := "java/lang/Throwable", name := "<init>", desc := "(Ljava/lang/String;)V" } : Jvm.MethodName)) ∈ lw_tbl := lw_at lw_m3 204 rfl
theorem q771 : (Jvm.Cond.lays "java/lang/Throwable" "java/lang/Throwable" "cause" "Ljava/lang/Throwable;") ∈ lw_all := lw_g (lw_at lw_m3 208 rfl) rfl
theorem q773 : (Jvm.Cond.lays "java/lang/Throwable" "java/lang/Throwable" "stackTrace" "[Ljava/lang/StackTraceElement;") ∈ lw_all := lw_g (lw_at lw_m3 210 rfl) rfl
theorem q775 : (Jvm.Cond.lays "java/lang/Throwable" "java/lang/Throwable" "suppressedExceptions" "Ljava/util/List;") ∈ lw_all := lw_g (lw_at lw_m3 212 rfl) rfl
theorem q777 : (Jvm.Cond.lays "java/lang/Throwable" "java/lang/Throwable" "detailMessage" "Ljava/lang/String;") ∈ lw_all := lw_g (lw_at lw_m3 214 rfl) rfl
theorem q779 : (Jvm.Cond.lays "java/lang/Throwable" "java/lang/Throwable" "backtrace" "Ljava/lang/Object;") ∈ lw_all := lw_g (lw_at lw_m3 216 rfl) rfl
theorem q780 : (Jvm.Cond.fieldLink "java/lang/Throwable" (198 : Nat) "java/lang/Throwable" "backtrace" "Ljava/lang/Object;") ∈ lw_all := lw_g (lw_at lw_m3 217 rfl) rfl
theorem q781 : (Jvm.Cond.superclass "java/lang/Throwable" "java/lang/Object") ∈ lw_all := lw_g (lw_at lw_m3 218 rfl) rfl
theorem q782 : (Jvm.Cond.instanceMethod ({ cls := "java/lang/Throwable", name := "<init>", desc := "()V" } : Jvm.MethodName)) ∈ lw_all := lw_g (lw_at lw_m3 219 rfl) rfl
theorem q783 : (Jvm.Cond.code ({ cls := "java/lang/Throwable", name := "<init>", desc := "()V" } : Jvm.MethodName) prog_38_method_1_code (1 : Nat) (Option.none : Option Jvm.ClassFile.FieldType)) ∈ lw_all := lw_g (lw_at lw_m3 220 rfl) rfl
theorem q784 : (Jvm.Cond.methodLink "java/lang/Throwable" (1 : Nat) ({ cls := "java/lang/Object", name := "<init>", desc := "()V" } : Jvm.MethodName)) ∈ lw_all := lw_g (lw_at lw_m3 221 rfl) rfl
theorem q785 : (Jvm.Cond.fieldLink "java/lang/Throwable" (13 : Nat) "java/lang/Throwable" "UNASSIGNED_STACK" "[Ljava/lang/StackTraceElement;") ∈ lw_all := lw_g (lw_at lw_m3 222 rfl) rfl
theorem q786 : (Jvm.Cond.laysStatic "java/lang/Throwable" "UNASSIGNED_STACK" "[Ljava/lang/StackTraceElement;") ∈ lw_tbl := lw_at lw_m3 223 rfl
theorem q787 : (Jvm.Cond.fieldLink "java/lang/Throwable" (20 : Nat) "java/lang/Throwable" "SUPPRESSED_SENTINEL" "Ljava/util/List;") ∈ lw_all := lw_g (lw_at lw_m3 224 rfl) rfl
theorem q788 : (Jvm.Cond.laysStatic "java/lang/Throwable" "SUPPRESSED_SENTINEL" "Ljava/util/List;") ∈ lw_tbl := lw_at lw_m3 225 rfl
theorem q789 : (Jvm.Cond.methodLink "java/lang/Throwable" (27 : Nat) ({ cls := "java/lang/Throwable", name := "fillInStackTrace", desc := "()Ljava/lang/Throwable;" } : Jvm.MethodName)) ∈ lw_all := lw_g (lw_at lw_m3 226 rfl) rfl
theorem q790 : (Jvm.Cond.instanceMethod ({ cls := "java/lang/Throwable", name := "fillInStackTrace", desc := "()Ljava/lang/Throwable;" } : Jvm.MethodName)) ∈ lw_all := lw_g (lw_at lw_m3 227 rfl) rfl
theorem q791 : (Jvm.Cond.sameMethod "java/lang/Throwable" "java/lang/Throwable" "fillInStackTrace" "()Ljava/lang/Throwable;") ∈ lw_all := lw_g (lw_at lw_m3 228 rfl) rfl
theorem q792 : (Jvm.Cond.codeSync ({ cls := "java/lang/Throwable", name := "fillInStackTrace", desc := "()Ljava/lang/Throwable;" } : Jvm.MethodName) prog_38_method_18_code (1 : Nat) (Option.some (Jvm.ClassFile.FieldType.object "java/lang/Throwable"))) ∈ lw_all := lw_g (lw_at lw_m3 229 rfl) rfl
theorem q793 : (Jvm.Cond.methodLink "java/lang/Throwable" (202 : Nat) ({ cls := "java/lang/Throwable", name := "fillInStackTrace", desc := "(I)Ljava/lang/Throwable;" } : Jvm.MethodName)) ∈ lw_all := lw_g (lw_at lw_m3 230 rfl) rfl
theorem q794 : (Jvm.Cond.privateMethod ({ cls := "java/lang/Throwable", name := "fillInStackTrace", desc := "(I)Ljava/lang/Throwable;" } : Jvm.MethodName)) ∈ lw_tbl := lw_at lw_m3 231 rfl
theorem q795 : (Jvm.Cond.instanceMethod ({ cls := "java/lang/Throwable", name := "fillInStackTrace", desc := "(I)Ljava/lang/Throwable;" } : Jvm.MethodName)) ∈ lw_all := lw_g (lw_at lw_m3 232 rfl) rfl
theorem q796 : (Jvm.Cond.instantiable "java/lang/Throwable" (6 : Nat)) ∈ lw_all := lw_g (lw_at lw_m3 233 rfl) rfl
theorem q797 : (Jvm.Cond.native ({ cls := "java/lang/Throwable", name := "fillInStackTrace", desc := "(I)Ljava/lang/Throwable;" } : Jvm.MethodName)) ∈ lw_all := lw_g (lw_at lw_m3 234 rfl) rfl
theorem q808 : (Jvm.Cond.instanceMethod ({ cls := "java/lang/Throwable", name := "<init>", desc := "(Ljava/lang/String;Ljava/lang/Throwable;ZZ)V" } : Jvm.MethodName)) ∈ lw_all := lw_g (lw_at lw_m4 5 rfl) rfl
theorem q809 : (Jvm.Cond.code ({ cls := "java/lang/Throwable", name := "<init>", desc := "(Ljava/lang/String;Ljava/lang/Throwable;ZZ)V" } : Jvm.MethodName) prog_38_method_5_code (5 : Nat) (Option.none : Option Jvm.ClassFile.FieldType)) ∈ lw_all := lw_g (lw_at lw_m4 6 rfl) rfl
theorem q812 : (Jvm.Cond.fieldLink "java/lang/Throwable" (198 : Nat) "java/lang/Throwable" "backtrace" "Ljava/lang/Object;") ∈ lw_all := lw_g (lw_at lw_m4 9 rfl) rfl
theorem q813 : (Jvm.Cond.fieldLink "java/lang/Throwable" (31 : Nat) "java/lang/Throwable" "detailMessage" "Ljava/lang/String;") ∈ lw_all := lw_g (lw_at lw_m4 10 rfl) rfl
theorem q814 : (Jvm.Cond.fieldLink "java/lang/Throwable" (7 : Nat) "java/lang/Throwable" "cause" "Ljava/lang/Throwable;") ∈ lw_all := lw_g (lw_at lw_m4 11 rfl) rfl
theorem q815 : (Jvm.Cond.fieldLink "java/lang/Throwable" (17 : Nat) "java/lang/Throwable" "stackTrace" "[Ljava/lang/StackTraceElement;") ∈ lw_all := lw_g (lw_at lw_m4 12 rfl) rfl
theorem q816 : (Jvm.Cond.fieldLink "java/lang/Throwable" (24 : Nat) "java/lang/Throwable" "suppressedExceptions" "Ljava/util/List;") ∈ lw_all := lw_g (lw_at lw_m4 13 rfl) rfl
theorem q819 : (Jvm.Cond.soleField "java/lang/Throwable" "backtrace") ∈ lw_all := lw_g (lw_at lw_m4 16 rfl) rfl
theorem q820 : (Jvm.Cond.soleField "java/lang/Throwable" "detailMessage") ∈ lw_all := lw_g (lw_at lw_m4 17 rfl) rfl
theorem q821 : (Jvm.Cond.soleField "java/lang/Throwable" "cause") ∈ lw_all := lw_g (lw_at lw_m4 18 rfl) rfl
theorem q822 : (Jvm.Cond.soleField "java/lang/Throwable" "stackTrace") ∈ lw_all := lw_g (lw_at lw_m4 19 rfl) rfl
theorem q824 : (Jvm.Cond.soleField "java/lang/Throwable" "depth") ∈ lw_all := lw_g (lw_at lw_m4 21 rfl) rfl
theorem q825 : (Jvm.Cond.soleField "java/lang/Throwable" "suppressedExceptions") ∈ lw_all := lw_g (lw_at lw_m4 22 rfl) rfl
theorem q2114 : (Jvm.Cond.sameMethod "java/lang/Throwable" "java/lang/Throwable" "fillInStackTrace" "(I)Ljava/lang/Throwable;") ∈ lw_all := lw_g (lw_at lw_m9 111 rfl) rfl
theorem q2136 : (Jvm.Cond.castable "java/lang/Throwable" "java/lang/Object") ∈ lw_tbl := lw_at lw_m9 133 rfl
theorem in_J14 : ∀ w ∈ wsJ140, w ∈ lw_all := lw_in wsJ140 [771, 773, 775, 777, 779] (by decide +kernel) (by decide +kernel)

/-! java/lang/Exception -/
set_option maxRecDepth 100000
def RJ15 : String := "java/lang/Exception"
abbrev cJ15_init : ByteArray := prog_26_method_5_code
def yJ15_init : MethodName := ⟨RJ15, "<init>", "(Ljava/lang/String;Ljava/lang/Throwable;ZZ)V"⟩
theorem q111 : (Jvm.Cond.initialized "java/lang/Exception") ∈ lw_all := lw_g (lw_at lw_m1 28 rfl) rfl
theorem q764 : (Jvm.Cond.declares ({ cls := "java/lang/Exception", name := "<init>", desc := "()V" } : Jvm.MethodName)) ∈ lw_tbl := lw_at lw_m3 201 rfl
theorem q765 : (Jvm.Cond.declares ({ cls := "java/lang/Exception", name := "<init>", desc := "(Ljava/lang/String;)V" } : Jvm.MethodName)) ∈ lw_tbl := lw_at lw_m3 202 rfl
theorem q805 : (Jvm.Cond.instanceMethod ({ cls := "java/lang/Exception", name := "<init>", desc := "(Ljava/lang/String;Ljava/lang/Throwable;ZZ)V" } : Jvm.MethodName)) ∈ lw_all := lw_g (lw_at lw_m4 2 rfl) rfl
theorem q806 : (Jvm.Cond.code ({ cls := "java/lang/Exception", name := "<init>", desc := "(Ljava/lang/String;Ljava/lang/Throwable;ZZ)V" } : Jvm.MethodName) prog_26_method_5_code (5 : Nat) (Option.none : Option Jvm.ClassFile.FieldType)) ∈ lw_all := lw_g (lw_at lw_m4 3 rfl) rfl
theorem q807 : (Jvm.Cond.methodLink "java/lang/Exception" (16 : Nat) ({ cls := "java/lang/Throwable", name := "<init>", desc := "(Ljava/lang/String;Ljava/lang/Throwable;ZZ)V" } : Jvm.MethodName)) ∈ lw_all := lw_g (lw_at lw_m4 4 rfl) rfl

/-! java/lang/RuntimeException -/
set_option maxRecDepth 100000
def RJ16 : String := "java/lang/RuntimeException"
abbrev cJ16_init : ByteArray := prog_31_method_5_code
def yJ16_init : MethodName := ⟨RJ16, "<init>", "(Ljava/lang/String;Ljava/lang/Throwable;ZZ)V"⟩
theorem q112 : (Jvm.Cond.initialized "java/lang/RuntimeException") ∈ lw_all := lw_g (lw_at lw_m1 29 rfl) rfl
theorem q762 : (Jvm.Cond.declares ({ cls := "java/lang/RuntimeException", name := "<init>", desc := "()V" } : Jvm.MethodName)) ∈ lw_tbl := lw_at lw_m3 199 rfl
theorem q763 : (Jvm.Cond.declares ({ cls := "java/lang/RuntimeException", name := "<init>", desc := "(Ljava/lang/String;)V" } : Jvm.MethodName)) ∈ lw_tbl := lw_at lw_m3 200 rfl
theorem q802 : (Jvm.Cond.instanceMethod ({ cls := "java/lang/RuntimeException", name := "<init>", desc := "(Ljava/lang/String;Ljava/lang/Throwable;ZZ)V" } : Jvm.MethodName)) ∈ lw_all := lw_g (lw_at lw_m3 239 rfl) rfl
theorem q803 : (Jvm.Cond.code ({ cls := "java/lang/RuntimeException", name := "<init>", desc := "(Ljava/lang/String;Ljava/lang/Throwable;ZZ)V" } : Jvm.MethodName) prog_31_method_5_code (5 : Nat) (Option.none : Option Jvm.ClassFile.FieldType)) ∈ lw_all := lw_g (lw_at lw_m4 0 rfl) rfl
theorem q804 : (Jvm.Cond.methodLink "java/lang/RuntimeException" (16 : Nat) ({ cls := "java/lang/Exception", name := "<init>", desc := "(Ljava/lang/String;Ljava/lang/Throwable;ZZ)V" } : Jvm.MethodName)) ∈ lw_all := lw_g (lw_at lw_m4 1 rfl) rfl

/-! java/lang/Integer -/
set_option maxRecDepth 100000
def RJ17 : String := "java/lang/Integer"
abbrev cJ17_bitCount : ByteArray := prog_27_method_49_code
def yJ17_bitCount : MethodName := ⟨RJ17, "bitCount", "(I)I"⟩
theorem q119 : (Jvm.Cond.initialized "java/lang/Integer") ∈ lw_all := lw_g (lw_at lw_m1 36 rfl) rfl
theorem q1500 : (Jvm.Cond.static ({ cls := "java/lang/Integer", name := "bitCount", desc := "(I)I" } : Jvm.MethodName)) ∈ lw_all := lw_g (lw_at lw_m6 217 rfl) rfl
theorem q1501 : (Jvm.Cond.code ({ cls := "java/lang/Integer", name := "bitCount", desc := "(I)I" } : Jvm.MethodName) prog_27_method_49_code (1 : Nat) (Option.some Jvm.ClassFile.FieldType.int)) ∈ lw_all := lw_g (lw_at lw_m6 218 rfl) rfl
theorem q1502 : (Jvm.Cond.constant "java/lang/Integer" (265 : Nat) (1431655765 : Int32)) ∈ lw_all := lw_g (lw_at lw_m6 219 rfl) rfl
theorem q1503 : (Jvm.Cond.constant "java/lang/Integer" (266 : Nat) (858993459 : Int32)) ∈ lw_all := lw_g (lw_at lw_m6 220 rfl) rfl
theorem q1504 : (Jvm.Cond.constant "java/lang/Integer" (267 : Nat) (252645135 : Int32)) ∈ lw_all := lw_g (lw_at lw_m6 221 rfl) rfl

/-! java/lang/Object -/
set_option maxRecDepth 100000
def RJ18 : String := "java/lang/Object"
abbrev cJ18_init : ByteArray := object_method_1_code
def yJ18_init : MethodName := ⟨RJ18, "<init>", "()V"⟩
theorem q126 : (Jvm.Cond.instanceMethod ({ cls := "java/lang/Object", name := "<init>", desc := "()V" } : Jvm.MethodName)) ∈ lw_all := lw_g (lw_at lw_m1 43 rfl) rfl
theorem q127 : (Jvm.Cond.code ({ cls := "java/lang/Object", name := "<init>", desc := "()V" } : Jvm.MethodName) object_method_1_code (1 : Nat) (Option.none : Option Jvm.ClassFile.FieldType)) ∈ lw_all := lw_g (lw_at lw_m1 44 rfl) rfl
theorem q469 : (Jvm.Cond.instanceMethod ({ cls := "java/lang/Object", name := "getClass", desc := "()Ljava/lang/Class;" } : Jvm.MethodName)) ∈ lw_all := lw_g (lw_at lw_m2 146 rfl) rfl
theorem q470 : (Jvm.Cond.sameMethod "java/lang/Object" "java/lang/Object" "getClass" "()Ljava/lang/Class;") ∈ lw_all := lw_g (lw_at lw_m2 147 rfl) rfl
theorem q492 : (Jvm.Cond.native ({ cls := "java/lang/Object", name := "getClass", desc := "()Ljava/lang/Class;" } : Jvm.MethodName)) ∈ lw_all := lw_g (lw_at lw_m2 169 rfl) rfl
theorem q633 : (Jvm.Cond.native ({ cls := "java/lang/Object", name := "clone", desc := "()Ljava/lang/Object;" } : Jvm.MethodName)) ∈ lw_all := lw_g (lw_at lw_m3 70 rfl) rfl
theorem q634 : (Jvm.Cond.instanceMethod ({ cls := "java/lang/Object", name := "clone", desc := "()Ljava/lang/Object;" } : Jvm.MethodName)) ∈ lw_all := lw_g (lw_at lw_m3 71 rfl) rfl
theorem q2139 : (Jvm.Cond.declares ({ cls := "java/lang/Object", name := "getClass", desc := "()Ljava/lang/Class;" } : Jvm.MethodName)) ∈ lw_tbl := lw_at lw_m9 136 rfl

/-! java/lang/System$2 -/
set_option maxRecDepth 100000
def RJ19 : String := "java/lang/System$2"
abbrev cJ19_getUTF16Char : ByteArray := prog_37_method_45_code
def yJ19_getUTF16Char : MethodName := ⟨RJ19, "getUTF16Char", "([BI)C"⟩
theorem q490 : (Jvm.Cond.selects "java/lang/System$2" ({ cls := "java/lang/Object", name := "getClass", desc := "()Ljava/lang/Class;" } : Jvm.MethodName) ({ cls := "java/lang/Object", name := "getClass", desc := "()Ljava/lang/Class;" } : Jvm.MethodName)) ∈ lw_all := lw_g (lw_at lw_m2 167 rfl) rfl
theorem q858 : (Jvm.Cond.castable "java/lang/System$2" "jdk/internal/access/JavaLangAccess") ∈ lw_tbl := lw_at lw_m4 55 rfl
theorem q859 : (Jvm.Cond.selects "java/lang/System$2" ({ cls := "jdk/internal/access/JavaLangAccess", name := "getUTF16Char", desc := "([BI)C" } : Jvm.MethodName) ({ cls := "java/lang/System$2", name := "getUTF16Char", desc := "([BI)C" } : Jvm.MethodName)) ∈ lw_all := lw_g (lw_at lw_m4 56 rfl) rfl
theorem q860 : (Jvm.Cond.unhidden "java/lang/System$2" "getUTF16Char" "([BI)C") ∈ lw_tbl := lw_at lw_m4 57 rfl
theorem q861 : (Jvm.Cond.instanceMethod ({ cls := "java/lang/System$2", name := "getUTF16Char", desc := "([BI)C" } : Jvm.MethodName)) ∈ lw_all := lw_g (lw_at lw_m4 58 rfl) rfl
theorem q862 : (Jvm.Cond.publicMethod ({ cls := "java/lang/System$2", name := "getUTF16Char", desc := "([BI)C" } : Jvm.MethodName)) ∈ lw_tbl := lw_at lw_m4 59 rfl
theorem q863 : (Jvm.Cond.code ({ cls := "java/lang/System$2", name := "getUTF16Char", desc := "([BI)C" } : Jvm.MethodName) prog_37_method_45_code (3 : Nat) (Option.some Jvm.ClassFile.FieldType.char)) ∈ lw_all := lw_g (lw_at lw_m4 60 rfl) rfl
theorem q864 : (Jvm.Cond.methodLink "java/lang/System$2" (185 : Nat) ({ cls := "java/lang/StringUTF16", name := "getChar", desc := "([BI)C" } : Jvm.MethodName)) ∈ lw_all := lw_g (lw_at lw_m4 61 rfl) rfl
theorem q2130 : (Jvm.Cond.castable "java/lang/System$2" "java/lang/Object") ∈ lw_tbl := lw_at lw_m9 127 rfl

theorem q83 : (Jvm.Cond.initialized "WindGasLaw") ∈ lw_all := lw_g (lw_at lw_m1 0 rfl) rfl
set_option maxRecDepth 100000
theorem q120 : (Jvm.Cond.classLink "WindGasLaw" (7 : Nat) "WindGas") ∈ lw_all := lw_g (lw_at lw_m1 37 rfl) rfl
theorem q122 : (Jvm.Cond.methodLink "WindGasLaw" (9 : Nat) ({ cls := "WindGas", name := "<init>", desc := "()V" } : Jvm.MethodName)) ∈ lw_all := lw_g (lw_at lw_m1 39 rfl) rfl
theorem q395 : (Jvm.Cond.methodLink "WindGasLaw" (13 : Nat) ({ cls := "WindGas", name := "tell", desc := "(IIII)Z" } : Jvm.MethodName)) ∈ lw_all := lw_g (lw_at lw_m2 72 rfl) rfl
theorem q507 : (Jvm.Cond.methodLink "WindGasLaw" (18 : Nat) ({ cls := "WindGas", name := "said", desc := "(II)I" } : Jvm.MethodName)) ∈ lw_all := lw_g (lw_at lw_m2 184 rfl) rfl
theorem q542 : (Jvm.Cond.methodLink "WindGasLaw" (97 : Nat) ({ cls := "WindGas", name := "law", desc := "(II)I" } : Jvm.MethodName)) ∈ lw_all := lw_g (lw_at lw_m2 219 rfl) rfl
theorem q556 : (Jvm.Cond.methodLink "WindGasLaw" (83 : Nat) ({ cls := "WindGas", name := "feed", desc := "(IIIII)I" } : Jvm.MethodName)) ∈ lw_all := lw_g (lw_at lw_m2 233 rfl) rfl
theorem q564 : (Jvm.Cond.methodLink "WindGasLaw" (88 : Nat) ({ cls := "WindGas", name := "rules", desc := "(I)I" } : Jvm.MethodName)) ∈ lw_all := lw_g (lw_at lw_m3 1 rfl) rfl
theorem q1030 : (Jvm.Cond.methodLink "WindGasLaw" (92 : Nat) ({ cls := "WindGas", name := "fault", desc := "()I" } : Jvm.MethodName)) ∈ lw_all := lw_g (lw_at lw_m4 227 rfl) rfl
theorem q1034 : (Jvm.Cond.methodLink "WindGasLaw" (28 : Nat) ({ cls := "WindGas", name := "store", desc := "(IIII)Z" } : Jvm.MethodName)) ∈ lw_all := lw_g (lw_at lw_m4 231 rfl) rfl
theorem q1044 : (Jvm.Cond.methodLink "WindGasLaw" (51 : Nat) ({ cls := "WindGas", name := "storeOf", desc := "(II)J" } : Jvm.MethodName)) ∈ lw_all := lw_g (lw_at lw_m5 1 rfl) rfl
theorem q1056 : (Jvm.Cond.methodLink "WindGasLaw" (55 : Nat) ({ cls := "WindGas", name := "lot", desc := "(III)I" } : Jvm.MethodName)) ∈ lw_all := lw_g (lw_at lw_m5 13 rfl) rfl
theorem q1061 : (Jvm.Cond.methodLink "WindGasLaw" (79 : Nat) ({ cls := "WindGas", name := "meter", desc := "(III)I" } : Jvm.MethodName)) ∈ lw_all := lw_g (lw_at lw_m5 18 rfl) rfl
theorem q1102 : (Jvm.Cond.methodLink "WindGasLaw" (23 : Nat) ({ cls := "WindGas", name := "stack", desc := "(III)I" } : Jvm.MethodName)) ∈ lw_all := lw_g (lw_at lw_m5 59 rfl) rfl
theorem q1147 : (Jvm.Cond.methodLink "WindGasLaw" (32 : Nat) ({ cls := "WindGas", name := "tank", desc := "(II)Z" } : Jvm.MethodName)) ∈ lw_all := lw_g (lw_at lw_m5 104 rfl) rfl
theorem q1152 : (Jvm.Cond.methodLink "WindGasLaw" (41 : Nat) ({ cls := "WindGas", name := "pass", desc := "(I)I" } : Jvm.MethodName)) ∈ lw_all := lw_g (lw_at lw_m5 109 rfl) rfl
theorem q1293 : (Jvm.Cond.methodLink "WindGasLaw" (46 : Nat) ({ cls := "WindGas", name := "stackOf", desc := "(II)J" } : Jvm.MethodName)) ∈ lw_all := lw_g (lw_at lw_m6 10 rfl) rfl
theorem q1297 : (Jvm.Cond.methodLink "WindGasLaw" (37 : Nat) ({ cls := "WindGas", name := "trip", desc := "(III)I" } : Jvm.MethodName)) ∈ lw_all := lw_g (lw_at lw_m6 14 rfl) rfl
theorem q1337 : (Jvm.Cond.methodLink "WindGasLaw" (67 : Nat) ({ cls := "WindGas", name := "green", desc := "(I)I" } : Jvm.MethodName)) ∈ lw_all := lw_g (lw_at lw_m6 54 rfl) rfl
theorem q1350 : (Jvm.Cond.methodLink "WindGasLaw" (59 : Nat) ({ cls := "WindGas", name := "tripOf", desc := "(II)I" } : Jvm.MethodName)) ∈ lw_all := lw_g (lw_at lw_m6 67 rfl) rfl
theorem q1374 : (Jvm.Cond.methodLink "WindGasLaw" (63 : Nat) ({ cls := "WindGas", name := "drank", desc := "(II)I" } : Jvm.MethodName)) ∈ lw_all := lw_g (lw_at lw_m6 91 rfl) rfl
theorem q1387 : (Jvm.Cond.methodLink "WindGasLaw" (71 : Nat) ({ cls := "WindGas", name := "paper", desc := "(III)I" } : Jvm.MethodName)) ∈ lw_all := lw_g (lw_at lw_m6 104 rfl) rfl
theorem q1408 : (Jvm.Cond.methodLink "WindGasLaw" (75 : Nat) ({ cls := "WindGas", name := "paperOf", desc := "(II)I" } : Jvm.MethodName)) ∈ lw_all := lw_g (lw_at lw_m6 125 rfl) rfl
theorem q1428 : (Jvm.Cond.methodLink "WindGasLaw" (101 : Nat) ({ cls := "WindGas", name := "place", desc := "(III)I" } : Jvm.MethodName)) ∈ lw_all := lw_g (lw_at lw_m6 145 rfl) rfl
theorem q1450 : (Jvm.Cond.methodLink "WindGasLaw" (105 : Nat) ({ cls := "WindGas", name := "apart", desc := "(I)I" } : Jvm.MethodName)) ∈ lw_all := lw_g (lw_at lw_m6 167 rfl) rfl
theorem q1485 : (Jvm.Cond.methodLink "WindGasLaw" (109 : Nat) ({ cls := "WindGas", name := "plan", desc := "(III)I" } : Jvm.MethodName)) ∈ lw_all := lw_g (lw_at lw_m6 202 rfl) rfl
theorem q1510 : (Jvm.Cond.methodLink "WindGasLaw" (113 : Nat) ({ cls := "WindGas", name := "sum", desc := "(I)J" } : Jvm.MethodName)) ∈ lw_all := lw_g (lw_at lw_m6 227 rfl) rfl
theorem q1515 : (Jvm.Cond.methodLink "WindGasLaw" (118 : Nat) ({ cls := "WindGas", name := "count", desc := "(I)I" } : Jvm.MethodName)) ∈ lw_all := lw_g (lw_at lw_m6 232 rfl) rfl
theorem q1531 : (Jvm.Cond.classLink "WindGasLaw" (10 : Nat) "WindGasModel") ∈ lw_all := lw_g (lw_at lw_m7 8 rfl) rfl
theorem q1533 : (Jvm.Cond.methodLink "WindGasLaw" (12 : Nat) ({ cls := "WindGasModel", name := "<init>", desc := "()V" } : Jvm.MethodName)) ∈ lw_all := lw_g (lw_at lw_m7 10 rfl) rfl
theorem q1777 : (Jvm.Cond.methodLink "WindGasLaw" (17 : Nat) ({ cls := "WindGasModel", name := "tell", desc := "(IIII)Z" } : Jvm.MethodName)) ∈ lw_all := lw_g (lw_at lw_m8 14 rfl) rfl
theorem q1790 : (Jvm.Cond.methodLink "WindGasLaw" (22 : Nat) ({ cls := "WindGasModel", name := "said", desc := "(II)I" } : Jvm.MethodName)) ∈ lw_all := lw_g (lw_at lw_m8 27 rfl) rfl
theorem q1799 : (Jvm.Cond.methodLink "WindGasLaw" (27 : Nat) ({ cls := "WindGasModel", name := "stack", desc := "(III)I" } : Jvm.MethodName)) ∈ lw_all := lw_g (lw_at lw_m8 36 rfl) rfl
theorem q1803 : (Jvm.Cond.methodLink "WindGasLaw" (31 : Nat) ({ cls := "WindGasModel", name := "store", desc := "(IIII)Z" } : Jvm.MethodName)) ∈ lw_all := lw_g (lw_at lw_m8 40 rfl) rfl
theorem q1811 : (Jvm.Cond.methodLink "WindGasLaw" (36 : Nat) ({ cls := "WindGasModel", name := "tank", desc := "(II)Z" } : Jvm.MethodName)) ∈ lw_all := lw_g (lw_at lw_m8 48 rfl) rfl
theorem q1816 : (Jvm.Cond.methodLink "WindGasLaw" (40 : Nat) ({ cls := "WindGasModel", name := "trip", desc := "(III)I" } : Jvm.MethodName)) ∈ lw_all := lw_g (lw_at lw_m8 53 rfl) rfl
theorem q1821 : (Jvm.Cond.methodLink "WindGasLaw" (45 : Nat) ({ cls := "WindGasModel", name := "pass", desc := "(I)I" } : Jvm.MethodName)) ∈ lw_all := lw_g (lw_at lw_m8 58 rfl) rfl
theorem q1900 : (Jvm.Cond.methodLink "WindGasLaw" (50 : Nat) ({ cls := "WindGasModel", name := "stackOf", desc := "(II)J" } : Jvm.MethodName)) ∈ lw_all := lw_g (lw_at lw_m8 137 rfl) rfl
theorem q1909 : (Jvm.Cond.methodLink "WindGasLaw" (54 : Nat) ({ cls := "WindGasModel", name := "storeOf", desc := "(II)J" } : Jvm.MethodName)) ∈ lw_all := lw_g (lw_at lw_m8 146 rfl) rfl
theorem q1913 : (Jvm.Cond.methodLink "WindGasLaw" (58 : Nat) ({ cls := "WindGasModel", name := "lot", desc := "(III)I" } : Jvm.MethodName)) ∈ lw_all := lw_g (lw_at lw_m8 150 rfl) rfl
theorem q1917 : (Jvm.Cond.methodLink "WindGasLaw" (62 : Nat) ({ cls := "WindGasModel", name := "tripOf", desc := "(II)I" } : Jvm.MethodName)) ∈ lw_all := lw_g (lw_at lw_m8 154 rfl) rfl
theorem q1937 : (Jvm.Cond.methodLink "WindGasLaw" (66 : Nat) ({ cls := "WindGasModel", name := "drank", desc := "(II)I" } : Jvm.MethodName)) ∈ lw_all := lw_g (lw_at lw_m8 174 rfl) rfl
theorem q1941 : (Jvm.Cond.methodLink "WindGasLaw" (70 : Nat) ({ cls := "WindGasModel", name := "green", desc := "(I)I" } : Jvm.MethodName)) ∈ lw_all := lw_g (lw_at lw_m8 178 rfl) rfl
theorem q1945 : (Jvm.Cond.methodLink "WindGasLaw" (74 : Nat) ({ cls := "WindGasModel", name := "paper", desc := "(III)I" } : Jvm.MethodName)) ∈ lw_all := lw_g (lw_at lw_m8 182 rfl) rfl
theorem q1949 : (Jvm.Cond.methodLink "WindGasLaw" (78 : Nat) ({ cls := "WindGasModel", name := "paperOf", desc := "(II)I" } : Jvm.MethodName)) ∈ lw_all := lw_g (lw_at lw_m8 186 rfl) rfl
theorem q1957 : (Jvm.Cond.methodLink "WindGasLaw" (82 : Nat) ({ cls := "WindGasModel", name := "meter", desc := "(III)I" } : Jvm.MethodName)) ∈ lw_all := lw_g (lw_at lw_m8 194 rfl) rfl
theorem q1962 : (Jvm.Cond.methodLink "WindGasLaw" (87 : Nat) ({ cls := "WindGasModel", name := "feed", desc := "(IIIII)I" } : Jvm.MethodName)) ∈ lw_all := lw_g (lw_at lw_m8 199 rfl) rfl
theorem q1970 : (Jvm.Cond.methodLink "WindGasLaw" (91 : Nat) ({ cls := "WindGasModel", name := "rules", desc := "(I)I" } : Jvm.MethodName)) ∈ lw_all := lw_g (lw_at lw_m8 207 rfl) rfl
theorem q2062 : (Jvm.Cond.methodLink "WindGasLaw" (96 : Nat) ({ cls := "WindGasModel", name := "fault", desc := "()I" } : Jvm.MethodName)) ∈ lw_all := lw_g (lw_at lw_m9 59 rfl) rfl
theorem q2066 : (Jvm.Cond.methodLink "WindGasLaw" (100 : Nat) ({ cls := "WindGasModel", name := "law", desc := "(II)I" } : Jvm.MethodName)) ∈ lw_all := lw_g (lw_at lw_m9 63 rfl) rfl
theorem q2070 : (Jvm.Cond.methodLink "WindGasLaw" (104 : Nat) ({ cls := "WindGasModel", name := "place", desc := "(III)I" } : Jvm.MethodName)) ∈ lw_all := lw_g (lw_at lw_m9 67 rfl) rfl
theorem q2074 : (Jvm.Cond.methodLink "WindGasLaw" (108 : Nat) ({ cls := "WindGasModel", name := "apart", desc := "(I)I" } : Jvm.MethodName)) ∈ lw_all := lw_g (lw_at lw_m9 71 rfl) rfl
theorem q2083 : (Jvm.Cond.methodLink "WindGasLaw" (112 : Nat) ({ cls := "WindGasModel", name := "plan", desc := "(III)I" } : Jvm.MethodName)) ∈ lw_all := lw_g (lw_at lw_m9 80 rfl) rfl
theorem q2101 : (Jvm.Cond.methodLink "WindGasLaw" (117 : Nat) ({ cls := "WindGasModel", name := "sum", desc := "(I)J" } : Jvm.MethodName)) ∈ lw_all := lw_g (lw_at lw_m9 98 rfl) rfl
theorem q2106 : (Jvm.Cond.methodLink "WindGasLaw" (121 : Nat) ({ cls := "WindGasModel", name := "count", desc := "(I)I" } : Jvm.MethodName)) ∈ lw_all := lw_g (lw_at lw_m9 103 rfl) rfl

theorem q1176 : (Jvm.Cond.interfaceMethod "WindGas$Cond" "WindGas$Cond" "holds" "([J)Z") ∈ lw_tbl := lw_at lw_m5 133 rfl
set_option maxRecDepth 100000
theorem q1177 : (Jvm.Cond.declares ({ cls := "WindGas$Cond", name := "holds", desc := "([J)Z" } : Jvm.MethodName)) ∈ lw_tbl := lw_at lw_m5 134 rfl

theorem q632 : (Jvm.Cond.sameMethod "[B" "java/lang/Object" "clone" "()Ljava/lang/Object;") ∈ lw_all := lw_g (lw_at lw_m3 69 rfl) rfl
set_option maxRecDepth 100000
theorem q635 : (Jvm.Cond.selects "[B" ({ cls := "[B", name := "clone", desc := "()Ljava/lang/Object;" } : Jvm.MethodName) ({ cls := "java/lang/Object", name := "clone", desc := "()Ljava/lang/Object;" } : Jvm.MethodName)) ∈ lw_all := lw_g (lw_at lw_m3 72 rfl) rfl
theorem q636 : (Jvm.Cond.castable "[B" "java/lang/Cloneable") ∈ lw_tbl := lw_at lw_m3 73 rfl
theorem q2140 : (Jvm.Cond.castable "[B" "java/lang/Object") ∈ lw_tbl := lw_at lw_m9 137 rfl

theorem q2141 : (Jvm.Cond.castable "[I" "java/lang/Object") ∈ lw_tbl := lw_at lw_m9 138 rfl
set_option maxRecDepth 100000

theorem q2142 : (Jvm.Cond.castable "[J" "java/lang/Object") ∈ lw_tbl := lw_at lw_m9 139 rfl
set_option maxRecDepth 100000

theorem q2137 : (Jvm.Cond.sameMethod "[Ljava/lang/Object;" "java/lang/Object" "getClass" "()Ljava/lang/Class;") ∈ lw_all := lw_g (lw_at lw_m9 134 rfl) rfl
set_option maxRecDepth 100000
theorem q2138 : (Jvm.Cond.selects "[Ljava/lang/Object;" ({ cls := "java/lang/Object", name := "getClass", desc := "()Ljava/lang/Class;" } : Jvm.MethodName) ({ cls := "java/lang/Object", name := "getClass", desc := "()Ljava/lang/Class;" } : Jvm.MethodName)) ∈ lw_all := lw_g (lw_at lw_m9 135 rfl) rfl
theorem q2143 : (Jvm.Cond.castable "[Ljava/lang/Object;" "java/lang/Object") ∈ lw_tbl := lw_at lw_m9 140 rfl

theorem q2144 : (Jvm.Cond.castable "[Ljava/lang/String;" "java/lang/Object") ∈ lw_tbl := lw_at lw_m9 141 rfl
set_option maxRecDepth 100000

theorem q2145 : (Jvm.Cond.castable "[Z" "java/lang/Object") ∈ lw_tbl := lw_at lw_m9 142 rfl
set_option maxRecDepth 100000

theorem q97 : (Jvm.Cond.initialized "java/lang/System") ∈ lw_all := lw_g (lw_at lw_m1 14 rfl) rfl
set_option maxRecDepth 100000
theorem q503 : (Jvm.Cond.static ({ cls := "java/lang/System", name := "arraycopy", desc := "(Ljava/lang/Object;ILjava/lang/Object;II)V" } : Jvm.MethodName)) ∈ lw_all := lw_g (lw_at lw_m2 180 rfl) rfl
theorem q504 : (Jvm.Cond.native ({ cls := "java/lang/System", name := "arraycopy", desc := "(Ljava/lang/Object;ILjava/lang/Object;II)V" } : Jvm.MethodName)) ∈ lw_all := lw_g (lw_at lw_m2 181 rfl) rfl

theorem q856 : (Jvm.Cond.interfaceMethod "jdk/internal/access/JavaLangAccess" "jdk/internal/access/JavaLangAccess" "getUTF16Char" "([BI)C") ∈ lw_tbl := lw_at lw_m4 53 rfl
set_option maxRecDepth 100000
theorem q857 : (Jvm.Cond.declares ({ cls := "jdk/internal/access/JavaLangAccess", name := "getUTF16Char", desc := "([BI)C" } : Jvm.MethodName)) ∈ lw_tbl := lw_at lw_m4 54 rfl

theorem q265 : (Jvm.Cond.arrayClass Jvm.ClassFile.FieldType.byte) ∈ lw_all := lw_g (lw_at lw_m1 182 rfl) rfl
set_option maxRecDepth 100000
theorem q393 : (Jvm.Cond.arrayClass Jvm.ClassFile.FieldType.int) ∈ lw_all := lw_g (lw_at lw_m2 70 rfl) rfl
theorem q394 : (Jvm.Cond.arrayClass Jvm.ClassFile.FieldType.long) ∈ lw_all := lw_g (lw_at lw_m2 71 rfl) rfl
theorem q497 : (Jvm.Cond.arrayOver (Jvm.ClassFile.FieldType.object "java/lang/Object")) ∈ lw_tbl := lw_at lw_m2 174 rfl
theorem q915 : (Jvm.Cond.arrayOver (Jvm.ClassFile.FieldType.object "java/lang/String")) ∈ lw_tbl := lw_at lw_m4 112 rfl
theorem q1776 : (Jvm.Cond.arrayClass Jvm.ClassFile.FieldType.boolean) ∈ lw_all := lw_g (lw_at lw_m8 13 rfl) rfl
theorem q2146 : (Jvm.Cond.arrayClass Jvm.ClassFile.FieldType.char) ∈ lw_all := lw_g (lw_at lw_m9 143 rfl) rfl
theorem q2147 : (Jvm.Cond.arrayClass Jvm.ClassFile.FieldType.short) ∈ lw_all := lw_g (lw_at lw_m9 144 rfl) rfl

