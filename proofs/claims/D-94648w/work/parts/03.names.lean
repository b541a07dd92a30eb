set_option maxRecDepth 100000
/-! NineGraves -/
set_option maxRecDepth 100000
def RX0 : String := "NineGraves"
def TX0 : u_T := fun k => match k with
  | 0 => ("NineGraves", "now", "LNineGraves$State;", true)
  | 1 => ("NineGraves", "image", "LNineGraves$State;", true)
  | 2 => ("NineGraves", "tape", "[B", true)
  | 3 => ("NineGraves", "taped", "I", false)
  | 4 => ("NineGraves", "fault", "I", false)
  | 5 => ("NineGraves", "faultAt", "I", false)
  | 6 => ("NineGraves", "names", "[I", true)
  | 7 => ("NineGraves", "shared", "[I", true)
  | 8 => ("NineGraves", "saint", "[I", true)
  | 9 => ("NineGraves", "has", "[[I", true)
  | 10 => ("NineGraves", "apart", "[[Z", true)
  | 11 => ("NineGraves", "sharing", "I", false)
  | 12 => ("NineGraves", "saints", "I", false)
  | 13 => ("NineGraves", "worth", "[[I", true)
  | 14 => ("NineGraves", "ways", "[[J", true)
  | 15 => ("NineGraves", "stop", "[I", true)
  | 16 => ("NineGraves", "trying", "[I", true)
  | 17 => ("NineGraves", "round", "[I", true)
  | 18 => ("NineGraves", "stops", "I", false)
  | 19 => ("NineGraves", "leastMiles", "I", false)
  | _ => ("NineGraves", "x", "I", false)
def tyX0 : Nat → FieldType := fun k => match k with
  | 0 => .object "NineGraves$State"
  | 1 => .object "NineGraves$State"
  | 2 => .array .byte
  | 3 => .int
  | 4 => .int
  | 5 => .int
  | 6 => .array .int
  | 7 => .array .int
  | 8 => .array .int
  | 9 => .array (.array .int)
  | 10 => .array (.array .boolean)
  | 11 => .int
  | 12 => .int
  | 13 => .array (.array .int)
  | 14 => .array (.array .long)
  | 15 => .array .int
  | 16 => .array .int
  | 17 => .array .int
  | 18 => .int
  | 19 => .int
  | _ => .int
abbrev wsX00 : List Cond := u_ws RX0 TX0 21
set_option maxRecDepth 100000 in
theorem nmX0 : ∀ a, a < 21 → ∀ b, b < 21 → a ≠ b → (TX0 a).2.1 ≠ (TX0 b).2.1 := by decide +kernel
set_option maxRecDepth 100000 in
theorem tyX0_ok : ∀ k, k < 21 → parseFieldDescriptor (TX0 k).2.2.1 = some (tyX0 k) := by decide +kernel
abbrev cX0_init : ByteArray := prog_1_method_2_code
def yX0_init : MethodName := ⟨RX0, "<init>", "()V"⟩
abbrev cX0_town : ByteArray := prog_1_method_9_code
def yX0_town : MethodName := ⟨RX0, "town", "(II)I"⟩
abbrev cX0_in : ByteArray := prog_1_method_1_code
def yX0_in : MethodName := ⟨RX0, "in", "(III)Z"⟩
abbrev cX0_bone : ByteArray := prog_1_method_10_code
def yX0_bone : MethodName := ⟨RX0, "bone", "(III)I"⟩
abbrev cX0_isTown : ByteArray := prog_1_method_3_code
def yX0_isTown : MethodName := ⟨RX0, "isTown", "(I)Z"⟩
abbrev cX0_puts : ByteArray := prog_1_method_6_code
def yX0_puts : MethodName := ⟨RX0, "puts", "(III)V"⟩
abbrev cX0_prove : ByteArray := prog_1_method_12_code
def yX0_prove : MethodName := ⟨RX0, "prove", "(II)Z"⟩
abbrev cX0_isBone : ByteArray := prog_1_method_4_code
def yX0_isBone : MethodName := ⟨RX0, "isBone", "(I)Z"⟩
abbrev cX0_hasProof : ByteArray := prog_1_method_11_code
def yX0_hasProof : MethodName := ⟨RX0, "hasProof", "(II)Z"⟩
abbrev cX0_feed : ByteArray := prog_1_method_15_code
def yX0_feed : MethodName := ⟨RX0, "feed", "(IIIII)I"⟩
abbrev cX0_put : ByteArray := prog_1_method_14_code
def yX0_put : MethodName := ⟨RX0, "put", "(I)V"⟩
abbrev cX0_end : ByteArray := prog_1_method_16_code
def yX0_end : MethodName := ⟨RX0, "end", "(I)I"⟩
abbrev cX0_text : ByteArray := prog_1_method_17_code
def yX0_text : MethodName := ⟨RX0, "text", "()I"⟩
abbrev cX0_fault : ByteArray := prog_1_method_18_code
def yX0_fault : MethodName := ⟨RX0, "fault", "(I)I"⟩
abbrev cX0_by : ByteArray := prog_1_method_20_code
def yX0_by : MethodName := ⟨RX0, "by", "(I)Z"⟩
abbrev cX0_isText : ByteArray := prog_1_method_19_code
def yX0_isText : MethodName := ⟨RX0, "isText", "(I)Z"⟩
abbrev cX0_lend : ByteArray := prog_1_method_25_code
def yX0_lend : MethodName := ⟨RX0, "lend", "(III)I"⟩
abbrev cX0_lends : ByteArray := prog_1_method_24_code
def yX0_lends : MethodName := ⟨RX0, "lends", "(III)Z"⟩
abbrev cX0_canLend : ByteArray := prog_1_method_23_code
def yX0_canLend : MethodName := ⟨RX0, "canLend", "(III)Z"⟩
abbrev cX0_year : ByteArray := prog_1_method_7_code
def yX0_year : MethodName := ⟨RX0, "year", "()I"⟩
abbrev cX0_bone_2 : ByteArray := prog_1_method_5_code
def yX0_bone_2 : MethodName := ⟨RX0, "bone", "(II)I"⟩
abbrev cX0_swap : ByteArray := prog_1_method_26_code
def yX0_swap : MethodName := ⟨RX0, "swap", "(II)Z"⟩
abbrev cX0_steal : ByteArray := prog_1_method_27_code
def yX0_steal : MethodName := ⟨RX0, "steal", "(II)Z"⟩
abbrev cX0_burn : ByteArray := prog_1_method_28_code
def yX0_burn : MethodName := ⟨RX0, "burn", "(I)I"⟩
abbrev cX0_pass : ByteArray := prog_1_method_30_code
def yX0_pass : MethodName := ⟨RX0, "pass", "(I)I"⟩
abbrev cX0_worn : ByteArray := prog_1_method_29_code
def yX0_worn : MethodName := ⟨RX0, "worn", "(I)I"⟩
abbrev cX0_rules : ByteArray := prog_1_method_21_code
def yX0_rules : MethodName := ⟨RX0, "rules", "()LNineGraves$Text;"⟩
abbrev cX0_names : ByteArray := prog_1_method_22_code
def yX0_names : MethodName := ⟨RX0, "names", "(I)V"⟩
abbrev cX0_proofsOf : ByteArray := prog_1_method_13_code
def yX0_proofsOf : MethodName := ⟨RX0, "proofsOf", "(I)I"⟩
abbrev cX0_played : ByteArray := prog_1_method_32_code
def yX0_played : MethodName := ⟨RX0, "played", "(I)I"⟩
abbrev cX0_does : ByteArray := prog_1_method_31_code
def yX0_does : MethodName := ⟨RX0, "does", "(LNineGraves$Doing;)Z"⟩
abbrev cX0_undo : ByteArray := prog_1_method_33_code
def yX0_undo : MethodName := ⟨RX0, "undo", "()I"⟩
abbrev cX0_of : ByteArray := prog_1_method_35_code
def yX0_of : MethodName := ⟨RX0, "of", "(II)I"⟩
abbrev cX0_isHoly : ByteArray := prog_1_method_34_code
def yX0_isHoly : MethodName := ⟨RX0, "isHoly", "(I)Z"⟩
abbrev cX0_saints : ByteArray := prog_1_method_40_code
def yX0_saints : MethodName := ⟨RX0, "saints", "(II)I"⟩
abbrev cX0_laysSaints : ByteArray := prog_1_method_39_code
def yX0_laysSaints : MethodName := ⟨RX0, "laysSaints", "(I)Z"⟩
abbrev cX0_areUnlike : ByteArray := prog_1_method_36_code
def yX0_areUnlike : MethodName := ⟨RX0, "areUnlike", "(II)Z"⟩
abbrev cX0_shares : ByteArray := prog_1_method_38_code
def yX0_shares : MethodName := ⟨RX0, "shares", "(II)Z"⟩
abbrev cX0_manyOf : ByteArray := prog_1_method_37_code
def yX0_manyOf : MethodName := ⟨RX0, "manyOf", "(I)I"⟩
abbrev cX0_rules_2 : ByteArray := prog_1_method_41_code
def yX0_rules_2 : MethodName := ⟨RX0, "rules", "(II)Z"⟩
abbrev cX0_seen : ByteArray := prog_1_method_42_code
def yX0_seen : MethodName := ⟨RX0, "seen", "(IIII)I"⟩
abbrev cX0_forget : ByteArray := prog_1_method_43_code
def yX0_forget : MethodName := ⟨RX0, "forget", "()I"⟩
abbrev cX0_same : ByteArray := prog_1_method_46_code
def yX0_same : MethodName := ⟨RX0, "same", "(II)Z"⟩
abbrev cX0_isSeen : ByteArray := prog_1_method_44_code
def yX0_isSeen : MethodName := ⟨RX0, "isSeen", "(I)Z"⟩
abbrev cX0_isSame : ByteArray := prog_1_method_45_code
def yX0_isSame : MethodName := ⟨RX0, "isSame", "(II)Z"⟩
abbrev cX0_miles : ByteArray := prog_1_method_8_code
def yX0_miles : MethodName := ⟨RX0, "miles", "(II)I"⟩
abbrev cX0_best : ByteArray := prog_1_method_50_code
def yX0_best : MethodName := ⟨RX0, "best", "(I)I"⟩
abbrev cX0_laysHistories : ByteArray := prog_1_method_49_code
def yX0_laysHistories : MethodName := ⟨RX0, "laysHistories", "()V"⟩
abbrev cX0_worthOf : ByteArray := prog_1_method_47_code
def yX0_worthOf : MethodName := ⟨RX0, "worthOf", "(III)I"⟩
abbrev cX0_may : ByteArray := prog_1_method_48_code
def yX0_may : MethodName := ⟨RX0, "may", "(III)Z"⟩
abbrev cX0_histories : ByteArray := prog_1_method_51_code
def yX0_histories : MethodName := ⟨RX0, "histories", "()J"⟩
abbrev cX0_led : ByteArray := prog_1_method_52_code
def yX0_led : MethodName := ⟨RX0, "led", "(I)I"⟩
abbrev cX0_chance : ByteArray := prog_1_method_55_code
def yX0_chance : MethodName := ⟨RX0, "chance", "(IIII)J"⟩
abbrev cX0_power : ByteArray := prog_1_method_54_code
def yX0_power : MethodName := ⟨RX0, "power", "(JI)J"⟩
abbrev cX0_common : ByteArray := prog_1_method_53_code
def yX0_common : MethodName := ⟨RX0, "common", "(JJ)J"⟩
abbrev cX0_round : ByteArray := prog_1_method_57_code
def yX0_round : MethodName := ⟨RX0, "round", "(II)I"⟩
abbrev cX0_goesRound : ByteArray := prog_1_method_56_code
def yX0_goesRound : MethodName := ⟨RX0, "goesRound", "(III)V"⟩
abbrev cX0_pilgrims : ByteArray := prog_1_method_60_code
def yX0_pilgrims : MethodName := ⟨RX0, "pilgrims", "(IIII)I"⟩
abbrev cX0_draw : ByteArray := prog_1_method_58_code
def yX0_draw : MethodName := ⟨RX0, "draw", "(I)I"⟩
abbrev cX0_hasHoly : ByteArray := prog_1_method_59_code
def yX0_hasHoly : MethodName := ⟨RX0, "hasHoly", "(I)Z"⟩
abbrev cX0_image : ByteArray := prog_1_method_61_code
def yX0_image : MethodName := ⟨RX0, "image", "()I"⟩
abbrev cX0_back : ByteArray := prog_1_method_62_code
def yX0_back : MethodName := ⟨RX0, "back", "()I"⟩
abbrev cX0_about : ByteArray := prog_1_method_64_code
def yX0_about : MethodName := ⟨RX0, "about", "(I)I"⟩
abbrev cX0_atTown : ByteArray := prog_1_method_63_code
def yX0_atTown : MethodName := ⟨RX0, "atTown", "(I)I"⟩
theorem q106 : (Jvm.Cond.initialized "NineGraves") ∈ lw_all := lw_g (lw_at lw_m1 1 rfl) rfl
theorem q139 : (Jvm.Cond.instantiable "NineGraves" (21 : Nat)) ∈ lw_all := lw_g (lw_at lw_m1 34 rfl) rfl
theorem q141 : (Jvm.Cond.instanceMethod ({ cls := "NineGraves", name := "<init>", desc := "()V" } : Jvm.MethodName)) ∈ lw_all := lw_g (lw_at lw_m1 36 rfl) rfl
theorem q142 : (Jvm.Cond.code ({ cls := "NineGraves", name := "<init>", desc := "()V" } : Jvm.MethodName) prog_1_method_2_code (1 : Nat) (Option.none : Option Jvm.ClassFile.FieldType)) ∈ lw_all := lw_g (lw_at lw_m1 37 rfl) rfl
theorem q143 : (Jvm.Cond.methodLink "NineGraves" (3 : Nat) ({ cls := "java/lang/Object", name := "<init>", desc := "()V" } : Jvm.MethodName)) ∈ lw_all := lw_g (lw_at lw_m1 38 rfl) rfl
theorem q146 : (Jvm.Cond.classLink "NineGraves" (9 : Nat) "NineGraves$State") ∈ lw_all := lw_g (lw_at lw_m1 41 rfl) rfl
theorem q148 : (Jvm.Cond.methodLink "NineGraves" (11 : Nat) ({ cls := "NineGraves$State", name := "<init>", desc := "()V" } : Jvm.MethodName)) ∈ lw_all := lw_g (lw_at lw_m1 43 rfl) rfl
theorem q157 : (Jvm.Cond.fieldLinkNest "NineGraves" (71 : Nat) "NineGraves$State" "n" "[I" "NineGraves") ∈ lw_tbl := lw_at lw_m1 52 rfl
theorem q159 : (Jvm.Cond.fieldLinkNest "NineGraves" (81 : Nat) "NineGraves$State" "x" "[I" "NineGraves") ∈ lw_tbl := lw_at lw_m1 54 rfl
theorem q161 : (Jvm.Cond.fieldLinkNest "NineGraves" (90 : Nat) "NineGraves$State" "y" "[I" "NineGraves") ∈ lw_tbl := lw_at lw_m1 56 rfl
theorem q163 : (Jvm.Cond.fieldLinkNest "NineGraves" (78 : Nat) "NineGraves$State" "row" "[I" "NineGraves") ∈ lw_tbl := lw_at lw_m1 58 rfl
theorem q165 : (Jvm.Cond.fieldLinkNest "NineGraves" (101 : Nat) "NineGraves$State" "step" "[[I" "NineGraves") ∈ lw_tbl := lw_at lw_m1 60 rfl
theorem q167 : (Jvm.Cond.fieldLinkNest "NineGraves" (289 : Nat) "NineGraves$State" "seen" "[[I" "NineGraves") ∈ lw_tbl := lw_at lw_m1 62 rfl
theorem q169 : (Jvm.Cond.fieldLinkNest "NineGraves" (127 : Nat) "NineGraves$State" "text" "[LNineGraves$Text;" "NineGraves") ∈ lw_tbl := lw_at lw_m1 64 rfl
theorem q186 : (Jvm.Cond.classLink "NineGraves" (40 : Nat) "[[I") ∈ lw_all := lw_g (lw_at lw_m1 81 rfl) rfl
theorem q187 : (Jvm.Cond.classLink "NineGraves" (45 : Nat) "[[Z") ∈ lw_all := lw_g (lw_at lw_m1 82 rfl) rfl
theorem q189 : (Jvm.Cond.classLink "NineGraves" (53 : Nat) "[[J") ∈ lw_all := lw_g (lw_at lw_m1 84 rfl) rfl
theorem q191 : (Jvm.Cond.methodLink "NineGraves" (67 : Nat) ({ cls := "NineGraves$State", name := "be", desc := "(LNineGraves$State;)V" } : Jvm.MethodName)) ∈ lw_all := lw_g (lw_at lw_m1 86 rfl) rfl
theorem q204 : (Jvm.Cond.fieldLink "NineGraves" (12 : Nat) "NineGraves" "now" "LNineGraves$State;") ∈ lw_all := lw_g (lw_at lw_m1 99 rfl) rfl
theorem q205 : (Jvm.Cond.fieldLink "NineGraves" (16 : Nat) "NineGraves" "image" "LNineGraves$State;") ∈ lw_all := lw_g (lw_at lw_m1 100 rfl) rfl
theorem q206 : (Jvm.Cond.fieldLink "NineGraves" (19 : Nat) "NineGraves" "tape" "[B") ∈ lw_all := lw_g (lw_at lw_m1 101 rfl) rfl
theorem q207 : (Jvm.Cond.fieldLink "NineGraves" (120 : Nat) "NineGraves" "taped" "I") ∈ lw_all := lw_g (lw_at lw_m1 102 rfl) rfl
theorem q208 : (Jvm.Cond.fieldLink "NineGraves" (23 : Nat) "NineGraves" "fault" "I") ∈ lw_all := lw_g (lw_at lw_m1 103 rfl) rfl
theorem q209 : (Jvm.Cond.fieldLink "NineGraves" (27 : Nat) "NineGraves" "faultAt" "I") ∈ lw_all := lw_g (lw_at lw_m1 104 rfl) rfl
theorem q210 : (Jvm.Cond.fieldLink "NineGraves" (30 : Nat) "NineGraves" "names" "[I") ∈ lw_all := lw_g (lw_at lw_m1 105 rfl) rfl
theorem q211 : (Jvm.Cond.fieldLink "NineGraves" (34 : Nat) "NineGraves" "shared" "[I") ∈ lw_all := lw_g (lw_at lw_m1 106 rfl) rfl
theorem q212 : (Jvm.Cond.fieldLink "NineGraves" (37 : Nat) "NineGraves" "saint" "[I") ∈ lw_all := lw_g (lw_at lw_m1 107 rfl) rfl
theorem q213 : (Jvm.Cond.fieldLink "NineGraves" (42 : Nat) "NineGraves" "has" "[[I") ∈ lw_all := lw_g (lw_at lw_m1 108 rfl) rfl
theorem q214 : (Jvm.Cond.fieldLink "NineGraves" (47 : Nat) "NineGraves" "apart" "[[Z") ∈ lw_all := lw_g (lw_at lw_m1 109 rfl) rfl
theorem q215 : (Jvm.Cond.fieldLink "NineGraves" (265 : Nat) "NineGraves" "sharing" "I") ∈ lw_all := lw_g (lw_at lw_m1 110 rfl) rfl
theorem q216 : (Jvm.Cond.fieldLink "NineGraves" (268 : Nat) "NineGraves" "saints" "I") ∈ lw_all := lw_g (lw_at lw_m1 111 rfl) rfl
theorem q217 : (Jvm.Cond.fieldLink "NineGraves" (50 : Nat) "NineGraves" "worth" "[[I") ∈ lw_all := lw_g (lw_at lw_m1 112 rfl) rfl
theorem q218 : (Jvm.Cond.fieldLink "NineGraves" (55 : Nat) "NineGraves" "ways" "[[J") ∈ lw_all := lw_g (lw_at lw_m1 113 rfl) rfl
theorem q219 : (Jvm.Cond.fieldLink "NineGraves" (58 : Nat) "NineGraves" "stop" "[I") ∈ lw_all := lw_g (lw_at lw_m1 114 rfl) rfl
theorem q220 : (Jvm.Cond.fieldLink "NineGraves" (61 : Nat) "NineGraves" "trying" "[I") ∈ lw_all := lw_g (lw_at lw_m1 115 rfl) rfl
theorem q221 : (Jvm.Cond.fieldLink "NineGraves" (64 : Nat) "NineGraves" "round" "[I") ∈ lw_all := lw_g (lw_at lw_m1 116 rfl) rfl
theorem q222 : (Jvm.Cond.fieldLink "NineGraves" (325 : Nat) "NineGraves" "stops" "I") ∈ lw_all := lw_g (lw_at lw_m1 117 rfl) rfl
theorem q223 : (Jvm.Cond.fieldLink "NineGraves" (328 : Nat) "NineGraves" "leastMiles" "I") ∈ lw_all := lw_g (lw_at lw_m1 118 rfl) rfl
theorem q224 : (Jvm.Cond.fieldLink "NineGraves" (334 : Nat) "NineGraves" "x" "I") ∈ lw_all := lw_g (lw_at lw_m1 119 rfl) rfl
theorem q225 : (Jvm.Cond.laysFinal "NineGraves" "NineGraves" "now" "LNineGraves$State;") ∈ lw_all := lw_g (lw_at lw_m1 120 rfl) rfl
theorem q226 : (Jvm.Cond.soleField "NineGraves" "now") ∈ lw_all := lw_g (lw_at lw_m1 121 rfl) rfl
theorem q227 : (Jvm.Cond.laysFinal "NineGraves" "NineGraves" "image" "LNineGraves$State;") ∈ lw_all := lw_g (lw_at lw_m1 122 rfl) rfl
theorem q228 : (Jvm.Cond.soleField "NineGraves" "image") ∈ lw_all := lw_g (lw_at lw_m1 123 rfl) rfl
theorem q229 : (Jvm.Cond.laysFinal "NineGraves" "NineGraves" "tape" "[B") ∈ lw_all := lw_g (lw_at lw_m1 124 rfl) rfl
theorem q230 : (Jvm.Cond.soleField "NineGraves" "tape") ∈ lw_all := lw_g (lw_at lw_m1 125 rfl) rfl
theorem q231 : (Jvm.Cond.lays "NineGraves" "NineGraves" "taped" "I") ∈ lw_all := lw_g (lw_at lw_m1 126 rfl) rfl
theorem q232 : (Jvm.Cond.soleField "NineGraves" "taped") ∈ lw_all := lw_g (lw_at lw_m1 127 rfl) rfl
theorem q233 : (Jvm.Cond.lays "NineGraves" "NineGraves" "fault" "I") ∈ lw_all := lw_g (lw_at lw_m1 128 rfl) rfl
theorem q234 : (Jvm.Cond.soleField "NineGraves" "fault") ∈ lw_all := lw_g (lw_at lw_m1 129 rfl) rfl
theorem q235 : (Jvm.Cond.lays "NineGraves" "NineGraves" "faultAt" "I") ∈ lw_all := lw_g (lw_at lw_m1 130 rfl) rfl
theorem q236 : (Jvm.Cond.soleField "NineGraves" "faultAt") ∈ lw_all := lw_g (lw_at lw_m1 131 rfl) rfl
theorem q237 : (Jvm.Cond.laysFinal "NineGraves" "NineGraves" "names" "[I") ∈ lw_all := lw_g (lw_at lw_m1 132 rfl) rfl
theorem q238 : (Jvm.Cond.soleField "NineGraves" "names") ∈ lw_all := lw_g (lw_at lw_m1 133 rfl) rfl
theorem q239 : (Jvm.Cond.laysFinal "NineGraves" "NineGraves" "shared" "[I") ∈ lw_all := lw_g (lw_at lw_m1 134 rfl) rfl
theorem q240 : (Jvm.Cond.soleField "NineGraves" "shared") ∈ lw_all := lw_g (lw_at lw_m1 135 rfl) rfl
theorem q241 : (Jvm.Cond.laysFinal "NineGraves" "NineGraves" "saint" "[I") ∈ lw_all := lw_g (lw_at lw_m1 136 rfl) rfl
theorem q242 : (Jvm.Cond.soleField "NineGraves" "saint") ∈ lw_all := lw_g (lw_at lw_m1 137 rfl) rfl
theorem q243 : (Jvm.Cond.laysFinal "NineGraves" "NineGraves" "has" "[[I") ∈ lw_all := lw_g (lw_at lw_m1 138 rfl) rfl
theorem q244 : (Jvm.Cond.soleField "NineGraves" "has") ∈ lw_all := lw_g (lw_at lw_m1 139 rfl) rfl
theorem q245 : (Jvm.Cond.laysFinal "NineGraves" "NineGraves" "apart" "[[Z") ∈ lw_all := lw_g (lw_at lw_m1 140 rfl) rfl
theorem q246 : (Jvm.Cond.soleField "NineGraves" "apart") ∈ lw_all := lw_g (lw_at lw_m1 141 rfl) rfl
theorem q247 : (Jvm.Cond.lays "NineGraves" "NineGraves" "sharing" "I") ∈ lw_all := lw_g (lw_at lw_m1 142 rfl) rfl
theorem q248 : (Jvm.Cond.soleField "NineGraves" "sharing") ∈ lw_all := lw_g (lw_at lw_m1 143 rfl) rfl
theorem q249 : (Jvm.Cond.lays "NineGraves" "NineGraves" "saints" "I") ∈ lw_all := lw_g (lw_at lw_m1 144 rfl) rfl
theorem q250 : (Jvm.Cond.soleField "NineGraves" "saints") ∈ lw_all := lw_g (lw_at lw_m1 145 rfl) rfl
theorem q251 : (Jvm.Cond.laysFinal "NineGraves" "NineGraves" "worth" "[[I") ∈ lw_all := lw_g (lw_at lw_m1 146 rfl) rfl
theorem q252 : (Jvm.Cond.soleField "NineGraves" "worth") ∈ lw_all := lw_g (lw_at lw_m1 147 rfl) rfl
theorem q253 : (Jvm.Cond.laysFinal "NineGraves" "NineGraves" "ways" "[[J") ∈ lw_all := lw_g (lw_at lw_m1 148 rfl) rfl
theorem q254 : (Jvm.Cond.soleField "NineGraves" "ways") ∈ lw_all := lw_g (lw_at lw_m1 149 rfl) rfl
theorem q255 : (Jvm.Cond.laysFinal "NineGraves" "NineGraves" "stop" "[I") ∈ lw_all := lw_g (lw_at lw_m1 150 rfl) rfl
theorem q256 : (Jvm.Cond.soleField "NineGraves" "stop") ∈ lw_all := lw_g (lw_at lw_m1 151 rfl) rfl
theorem q257 : (Jvm.Cond.laysFinal "NineGraves" "NineGraves" "trying" "[I") ∈ lw_all := lw_g (lw_at lw_m1 152 rfl) rfl
theorem q258 : (Jvm.Cond.soleField "NineGraves" "trying") ∈ lw_all := lw_g (lw_at lw_m1 153 rfl) rfl
theorem q259 : (Jvm.Cond.laysFinal "NineGraves" "NineGraves" "round" "[I") ∈ lw_all := lw_g (lw_at lw_m1 154 rfl) rfl
theorem q260 : (Jvm.Cond.soleField "NineGraves" "round") ∈ lw_all := lw_g (lw_at lw_m1 155 rfl) rfl
theorem q261 : (Jvm.Cond.lays "NineGraves" "NineGraves" "stops" "I") ∈ lw_all := lw_g (lw_at lw_m1 156 rfl) rfl
theorem q262 : (Jvm.Cond.soleField "NineGraves" "stops") ∈ lw_all := lw_g (lw_at lw_m1 157 rfl) rfl
theorem q263 : (Jvm.Cond.lays "NineGraves" "NineGraves" "leastMiles" "I") ∈ lw_all := lw_g (lw_at lw_m1 158 rfl) rfl
theorem q264 : (Jvm.Cond.soleField "NineGraves" "leastMiles") ∈ lw_all := lw_g (lw_at lw_m1 159 rfl) rfl
theorem q265 : (Jvm.Cond.lays "NineGraves" "NineGraves" "x" "I") ∈ lw_all := lw_g (lw_at lw_m1 160 rfl) rfl
theorem q266 : (Jvm.Cond.soleField "NineGraves" "x") ∈ lw_all := lw_g (lw_at lw_m1 161 rfl) rfl
theorem q267 : (Jvm.Cond.superclass "NineGraves" "java/lang/Object") ∈ lw_all := lw_g (lw_at lw_m1 162 rfl) rfl
theorem q272 : (Jvm.Cond.instanceMethod ({ cls := "NineGraves", name := "town", desc := "(II)I" } : Jvm.MethodName)) ∈ lw_all := lw_g (lw_at lw_m1 167 rfl) rfl
theorem q273 : (Jvm.Cond.selects "NineGraves" ({ cls := "NineGraves", name := "town", desc := "(II)I" } : Jvm.MethodName) ({ cls := "NineGraves", name := "town", desc := "(II)I" } : Jvm.MethodName)) ∈ lw_all := lw_g (lw_at lw_m1 168 rfl) rfl
theorem q274 : (Jvm.Cond.code ({ cls := "NineGraves", name := "town", desc := "(II)I" } : Jvm.MethodName) prog_1_method_9_code (4 : Nat) (Option.some Jvm.ClassFile.FieldType.int)) ∈ lw_all := lw_g (lw_at lw_m1 169 rfl) rfl
theorem q275 : (Jvm.Cond.methodLink "NineGraves" (74 : Nat) ({ cls := "NineGraves", name := "in", desc := "(III)Z" } : Jvm.MethodName)) ∈ lw_all := lw_g (lw_at lw_m1 170 rfl) rfl
theorem q276 : (Jvm.Cond.static ({ cls := "NineGraves", name := "in", desc := "(III)Z" } : Jvm.MethodName)) ∈ lw_all := lw_g (lw_at lw_m1 171 rfl) rfl
theorem q277 : (Jvm.Cond.code ({ cls := "NineGraves", name := "in", desc := "(III)Z" } : Jvm.MethodName) prog_1_method_1_code (3 : Nat) (Option.some Jvm.ClassFile.FieldType.boolean)) ∈ lw_all := lw_g (lw_at lw_m1 172 rfl) rfl
theorem q279 : (Jvm.Cond.instanceMethod ({ cls := "NineGraves", name := "bone", desc := "(III)I" } : Jvm.MethodName)) ∈ lw_all := lw_g (lw_at lw_m1 174 rfl) rfl
theorem q280 : (Jvm.Cond.selects "NineGraves" ({ cls := "NineGraves", name := "bone", desc := "(III)I" } : Jvm.MethodName) ({ cls := "NineGraves", name := "bone", desc := "(III)I" } : Jvm.MethodName)) ∈ lw_all := lw_g (lw_at lw_m1 175 rfl) rfl
theorem q281 : (Jvm.Cond.code ({ cls := "NineGraves", name := "bone", desc := "(III)I" } : Jvm.MethodName) prog_1_method_10_code (7 : Nat) (Option.some Jvm.ClassFile.FieldType.int)) ∈ lw_all := lw_g (lw_at lw_m1 176 rfl) rfl
theorem q282 : (Jvm.Cond.methodLink "NineGraves" (93 : Nat) ({ cls := "NineGraves", name := "isTown", desc := "(I)Z" } : Jvm.MethodName)) ∈ lw_all := lw_g (lw_at lw_m1 177 rfl) rfl
theorem q283 : (Jvm.Cond.privateMethod ({ cls := "NineGraves", name := "isTown", desc := "(I)Z" } : Jvm.MethodName)) ∈ lw_tbl := lw_at lw_m1 178 rfl
theorem q284 : (Jvm.Cond.instanceMethod ({ cls := "NineGraves", name := "isTown", desc := "(I)Z" } : Jvm.MethodName)) ∈ lw_all := lw_g (lw_at lw_m1 179 rfl) rfl
theorem q285 : (Jvm.Cond.code ({ cls := "NineGraves", name := "isTown", desc := "(I)Z" } : Jvm.MethodName) prog_1_method_3_code (2 : Nat) (Option.some Jvm.ClassFile.FieldType.boolean)) ∈ lw_all := lw_g (lw_at lw_m1 180 rfl) rfl
theorem q286 : (Jvm.Cond.methodLink "NineGraves" (97 : Nat) ({ cls := "NineGraves", name := "puts", desc := "(III)V" } : Jvm.MethodName)) ∈ lw_all := lw_g (lw_at lw_m1 181 rfl) rfl
theorem q287 : (Jvm.Cond.privateMethod ({ cls := "NineGraves", name := "puts", desc := "(III)V" } : Jvm.MethodName)) ∈ lw_tbl := lw_at lw_m1 182 rfl
theorem q288 : (Jvm.Cond.instanceMethod ({ cls := "NineGraves", name := "puts", desc := "(III)V" } : Jvm.MethodName)) ∈ lw_all := lw_g (lw_at lw_m1 183 rfl) rfl
theorem q289 : (Jvm.Cond.code ({ cls := "NineGraves", name := "puts", desc := "(III)V" } : Jvm.MethodName) prog_1_method_6_code (4 : Nat) (Option.none : Option Jvm.ClassFile.FieldType)) ∈ lw_all := lw_g (lw_at lw_m1 184 rfl) rfl
theorem q290 : (Jvm.Cond.methodLink "NineGraves" (104 : Nat) ({ cls := "java/lang/System", name := "arraycopy", desc := "(Ljava/lang/Object;ILjava/lang/Object;II)V" } : Jvm.MethodName)) ∈ lw_all := lw_g (lw_at lw_m1 185 rfl) rfl
theorem q292 : (Jvm.Cond.instanceMethod ({ cls := "NineGraves", name := "prove", desc := "(II)Z" } : Jvm.MethodName)) ∈ lw_all := lw_g (lw_at lw_m1 187 rfl) rfl
theorem q293 : (Jvm.Cond.selects "NineGraves" ({ cls := "NineGraves", name := "prove", desc := "(II)Z" } : Jvm.MethodName) ({ cls := "NineGraves", name := "prove", desc := "(II)Z" } : Jvm.MethodName)) ∈ lw_all := lw_g (lw_at lw_m1 188 rfl) rfl
theorem q294 : (Jvm.Cond.code ({ cls := "NineGraves", name := "prove", desc := "(II)Z" } : Jvm.MethodName) prog_1_method_12_code (3 : Nat) (Option.some Jvm.ClassFile.FieldType.boolean)) ∈ lw_all := lw_g (lw_at lw_m1 189 rfl) rfl
theorem q295 : (Jvm.Cond.methodLink "NineGraves" (110 : Nat) ({ cls := "NineGraves", name := "isBone", desc := "(I)Z" } : Jvm.MethodName)) ∈ lw_all := lw_g (lw_at lw_m1 190 rfl) rfl
theorem q296 : (Jvm.Cond.privateMethod ({ cls := "NineGraves", name := "isBone", desc := "(I)Z" } : Jvm.MethodName)) ∈ lw_tbl := lw_at lw_m1 191 rfl
theorem q297 : (Jvm.Cond.instanceMethod ({ cls := "NineGraves", name := "isBone", desc := "(I)Z" } : Jvm.MethodName)) ∈ lw_all := lw_g (lw_at lw_m1 192 rfl) rfl
theorem q298 : (Jvm.Cond.code ({ cls := "NineGraves", name := "isBone", desc := "(I)Z" } : Jvm.MethodName) prog_1_method_4_code (2 : Nat) (Option.some Jvm.ClassFile.FieldType.boolean)) ∈ lw_all := lw_g (lw_at lw_m1 193 rfl) rfl
theorem q299 : (Jvm.Cond.methodLink "NineGraves" (113 : Nat) ({ cls := "NineGraves", name := "hasProof", desc := "(II)Z" } : Jvm.MethodName)) ∈ lw_all := lw_g (lw_at lw_m1 194 rfl) rfl
theorem q300 : (Jvm.Cond.privateMethod ({ cls := "NineGraves", name := "hasProof", desc := "(II)Z" } : Jvm.MethodName)) ∈ lw_tbl := lw_at lw_m1 195 rfl
theorem q301 : (Jvm.Cond.instanceMethod ({ cls := "NineGraves", name := "hasProof", desc := "(II)Z" } : Jvm.MethodName)) ∈ lw_all := lw_g (lw_at lw_m1 196 rfl) rfl
theorem q302 : (Jvm.Cond.code ({ cls := "NineGraves", name := "hasProof", desc := "(II)Z" } : Jvm.MethodName) prog_1_method_11_code (3 : Nat) (Option.some Jvm.ClassFile.FieldType.boolean)) ∈ lw_all := lw_g (lw_at lw_m1 197 rfl) rfl
theorem q303 : (Jvm.Cond.methodLink "NineGraves" (117 : Nat) ({ cls := "NineGraves$State", name := "keeps", desc := "()V" } : Jvm.MethodName)) ∈ lw_all := lw_g (lw_at lw_m1 198 rfl) rfl
theorem q308 : (Jvm.Cond.instanceMethod ({ cls := "NineGraves", name := "feed", desc := "(IIIII)I" } : Jvm.MethodName)) ∈ lw_all := lw_g (lw_at lw_m1 203 rfl) rfl
theorem q309 : (Jvm.Cond.selects "NineGraves" ({ cls := "NineGraves", name := "feed", desc := "(IIIII)I" } : Jvm.MethodName) ({ cls := "NineGraves", name := "feed", desc := "(IIIII)I" } : Jvm.MethodName)) ∈ lw_all := lw_g (lw_at lw_m1 204 rfl) rfl
theorem q310 : (Jvm.Cond.code ({ cls := "NineGraves", name := "feed", desc := "(IIIII)I" } : Jvm.MethodName) prog_1_method_15_code (6 : Nat) (Option.some Jvm.ClassFile.FieldType.int)) ∈ lw_all := lw_g (lw_at lw_m1 205 rfl) rfl
theorem q311 : (Jvm.Cond.methodLink "NineGraves" (123 : Nat) ({ cls := "NineGraves", name := "put", desc := "(I)V" } : Jvm.MethodName)) ∈ lw_all := lw_g (lw_at lw_m1 206 rfl) rfl
theorem q312 : (Jvm.Cond.privateMethod ({ cls := "NineGraves", name := "put", desc := "(I)V" } : Jvm.MethodName)) ∈ lw_tbl := lw_at lw_m1 207 rfl
theorem q313 : (Jvm.Cond.instanceMethod ({ cls := "NineGraves", name := "put", desc := "(I)V" } : Jvm.MethodName)) ∈ lw_all := lw_g (lw_at lw_m1 208 rfl) rfl
theorem q314 : (Jvm.Cond.code ({ cls := "NineGraves", name := "put", desc := "(I)V" } : Jvm.MethodName) prog_1_method_14_code (3 : Nat) (Option.none : Option Jvm.ClassFile.FieldType)) ∈ lw_all := lw_g (lw_at lw_m1 209 rfl) rfl
theorem q316 : (Jvm.Cond.instanceMethod ({ cls := "NineGraves", name := "end", desc := "(I)I" } : Jvm.MethodName)) ∈ lw_all := lw_g (lw_at lw_m1 211 rfl) rfl
theorem q317 : (Jvm.Cond.selects "NineGraves" ({ cls := "NineGraves", name := "end", desc := "(I)I" } : Jvm.MethodName) ({ cls := "NineGraves", name := "end", desc := "(I)I" } : Jvm.MethodName)) ∈ lw_all := lw_g (lw_at lw_m1 212 rfl) rfl
theorem q318 : (Jvm.Cond.code ({ cls := "NineGraves", name := "end", desc := "(I)I" } : Jvm.MethodName) prog_1_method_16_code (2 : Nat) (Option.some Jvm.ClassFile.FieldType.int)) ∈ lw_all := lw_g (lw_at lw_m1 213 rfl) rfl
theorem q320 : (Jvm.Cond.instanceMethod ({ cls := "NineGraves", name := "text", desc := "()I" } : Jvm.MethodName)) ∈ lw_all := lw_g (lw_at lw_m1 215 rfl) rfl
theorem q321 : (Jvm.Cond.selects "NineGraves" ({ cls := "NineGraves", name := "text", desc := "()I" } : Jvm.MethodName) ({ cls := "NineGraves", name := "text", desc := "()I" } : Jvm.MethodName)) ∈ lw_all := lw_g (lw_at lw_m1 216 rfl) rfl
theorem q322 : (Jvm.Cond.codeWith ({ cls := "NineGraves", name := "text", desc := "()I" } : Jvm.MethodName) prog_1_method_17_code (5 : Nat) (Option.some Jvm.ClassFile.FieldType.int) [((30 : Nat), (62 : Nat), (70 : Nat), (140 : Nat)), ((30 : Nat), (62 : Nat), (96 : Nat), (0 : Nat)), ((70 : Nat), (89 : Nat), (96 : Nat), (0 : Nat)), ((96 : Nat), (98 : Nat), (96 : Nat), (0 : Nat))]) ∈ lw_all := lw_g (lw_at lw_m1 217 rfl) rfl
theorem q323 : (Jvm.Cond.classLink "NineGraves" (140 : Nat) "NineGraves$Wrong") ∈ lw_all := lw_g (lw_at lw_m1 218 rfl) rfl
theorem q324 : (Jvm.Cond.classLink "NineGraves" (131 : Nat) "NineGraves$Tokens") ∈ lw_all := lw_g (lw_at lw_m1 219 rfl) rfl
theorem q326 : (Jvm.Cond.methodLink "NineGraves" (133 : Nat) ({ cls := "NineGraves$Tokens", name := "<init>", desc := "([BI)V" } : Jvm.MethodName)) ∈ lw_all := lw_g (lw_at lw_m1 221 rfl) rfl
theorem q355 : (Jvm.Cond.methodLink "NineGraves" (136 : Nat) ({ cls := "NineGraves$Tokens", name := "read", desc := "()LNineGraves$Text;" } : Jvm.MethodName)) ∈ lw_all := lw_g (lw_at lw_m2 10 rfl) rfl
theorem q392 : (Jvm.Cond.fieldLinkNest "NineGraves" (174 : Nat) "NineGraves$Text" "worn" "LNineGraves$Sum;" "NineGraves") ∈ lw_tbl := lw_at lw_m2 47 rfl
theorem q394 : (Jvm.Cond.fieldLinkNest "NineGraves" (246 : Nat) "NineGraves$Text" "holy" "LNineGraves$Asked;" "NineGraves") ∈ lw_tbl := lw_at lw_m2 49 rfl
theorem q396 : (Jvm.Cond.fieldLinkNest "NineGraves" (259 : Nat) "NineGraves$Text" "unlike" "LNineGraves$Asked;" "NineGraves") ∈ lw_tbl := lw_at lw_m2 51 rfl
theorem q399 : (Jvm.Cond.fieldLinkNest "NineGraves" (262 : Nat) "NineGraves$Text" "many" "[I" "NineGraves") ∈ lw_tbl := lw_at lw_m2 54 rfl
theorem q402 : (Jvm.Cond.fieldLinkNest "NineGraves" (222 : Nat) "NineGraves$Text" "doings" "Ljava/util/ArrayList;" "NineGraves") ∈ lw_tbl := lw_at lw_m2 57 rfl
theorem q535 : (Jvm.Cond.fieldLinkNest "NineGraves" (142 : Nat) "NineGraves$Wrong" "fault" "I" "NineGraves") ∈ lw_tbl := lw_at lw_m2 190 rfl
theorem q537 : (Jvm.Cond.fieldLinkNest "NineGraves" (143 : Nat) "NineGraves$Wrong" "place" "I" "NineGraves") ∈ lw_tbl := lw_at lw_m2 192 rfl
theorem q689 : (Jvm.Cond.selects "NineGraves" ({ cls := "java/lang/Object", name := "getClass", desc := "()Ljava/lang/Class;" } : Jvm.MethodName) ({ cls := "java/lang/Object", name := "getClass", desc := "()Ljava/lang/Class;" } : Jvm.MethodName)) ∈ lw_all := lw_g (lw_at lw_m3 104 rfl) rfl
theorem q826 : (Jvm.Cond.instanceMethod ({ cls := "NineGraves", name := "fault", desc := "(I)I" } : Jvm.MethodName)) ∈ lw_all := lw_g (lw_at lw_m4 1 rfl) rfl
theorem q827 : (Jvm.Cond.selects "NineGraves" ({ cls := "NineGraves", name := "fault", desc := "(I)I" } : Jvm.MethodName) ({ cls := "NineGraves", name := "fault", desc := "(I)I" } : Jvm.MethodName)) ∈ lw_all := lw_g (lw_at lw_m4 2 rfl) rfl
theorem q828 : (Jvm.Cond.code ({ cls := "NineGraves", name := "fault", desc := "(I)I" } : Jvm.MethodName) prog_1_method_18_code (2 : Nat) (Option.some Jvm.ClassFile.FieldType.int)) ∈ lw_all := lw_g (lw_at lw_m4 3 rfl) rfl
theorem q830 : (Jvm.Cond.instanceMethod ({ cls := "NineGraves", name := "by", desc := "(I)Z" } : Jvm.MethodName)) ∈ lw_all := lw_g (lw_at lw_m4 5 rfl) rfl
theorem q831 : (Jvm.Cond.selects "NineGraves" ({ cls := "NineGraves", name := "by", desc := "(I)Z" } : Jvm.MethodName) ({ cls := "NineGraves", name := "by", desc := "(I)Z" } : Jvm.MethodName)) ∈ lw_all := lw_g (lw_at lw_m4 6 rfl) rfl
theorem q832 : (Jvm.Cond.code ({ cls := "NineGraves", name := "by", desc := "(I)Z" } : Jvm.MethodName) prog_1_method_20_code (2 : Nat) (Option.some Jvm.ClassFile.FieldType.boolean)) ∈ lw_all := lw_g (lw_at lw_m4 7 rfl) rfl
theorem q833 : (Jvm.Cond.methodLink "NineGraves" (146 : Nat) ({ cls := "NineGraves", name := "isText", desc := "(I)Z" } : Jvm.MethodName)) ∈ lw_all := lw_g (lw_at lw_m4 8 rfl) rfl
theorem q834 : (Jvm.Cond.privateMethod ({ cls := "NineGraves", name := "isText", desc := "(I)Z" } : Jvm.MethodName)) ∈ lw_tbl := lw_at lw_m4 9 rfl
theorem q835 : (Jvm.Cond.instanceMethod ({ cls := "NineGraves", name := "isText", desc := "(I)Z" } : Jvm.MethodName)) ∈ lw_all := lw_g (lw_at lw_m4 10 rfl) rfl
theorem q836 : (Jvm.Cond.code ({ cls := "NineGraves", name := "isText", desc := "(I)Z" } : Jvm.MethodName) prog_1_method_19_code (2 : Nat) (Option.some Jvm.ClassFile.FieldType.boolean)) ∈ lw_all := lw_g (lw_at lw_m4 11 rfl) rfl
theorem q838 : (Jvm.Cond.instanceMethod ({ cls := "NineGraves", name := "lend", desc := "(III)I" } : Jvm.MethodName)) ∈ lw_all := lw_g (lw_at lw_m4 13 rfl) rfl
theorem q839 : (Jvm.Cond.selects "NineGraves" ({ cls := "NineGraves", name := "lend", desc := "(III)I" } : Jvm.MethodName) ({ cls := "NineGraves", name := "lend", desc := "(III)I" } : Jvm.MethodName)) ∈ lw_all := lw_g (lw_at lw_m4 14 rfl) rfl
theorem q840 : (Jvm.Cond.code ({ cls := "NineGraves", name := "lend", desc := "(III)I" } : Jvm.MethodName) prog_1_method_25_code (4 : Nat) (Option.some Jvm.ClassFile.FieldType.int)) ∈ lw_all := lw_g (lw_at lw_m4 15 rfl) rfl
theorem q841 : (Jvm.Cond.methodLink "NineGraves" (163 : Nat) ({ cls := "NineGraves", name := "lends", desc := "(III)Z" } : Jvm.MethodName)) ∈ lw_all := lw_g (lw_at lw_m4 16 rfl) rfl
theorem q842 : (Jvm.Cond.privateMethod ({ cls := "NineGraves", name := "lends", desc := "(III)Z" } : Jvm.MethodName)) ∈ lw_tbl := lw_at lw_m4 17 rfl
theorem q843 : (Jvm.Cond.instanceMethod ({ cls := "NineGraves", name := "lends", desc := "(III)Z" } : Jvm.MethodName)) ∈ lw_all := lw_g (lw_at lw_m4 18 rfl) rfl
theorem q844 : (Jvm.Cond.code ({ cls := "NineGraves", name := "lends", desc := "(III)Z" } : Jvm.MethodName) prog_1_method_24_code (4 : Nat) (Option.some Jvm.ClassFile.FieldType.boolean)) ∈ lw_all := lw_g (lw_at lw_m4 19 rfl) rfl
theorem q845 : (Jvm.Cond.methodLink "NineGraves" (160 : Nat) ({ cls := "NineGraves", name := "canLend", desc := "(III)Z" } : Jvm.MethodName)) ∈ lw_all := lw_g (lw_at lw_m4 20 rfl) rfl
theorem q846 : (Jvm.Cond.privateMethod ({ cls := "NineGraves", name := "canLend", desc := "(III)Z" } : Jvm.MethodName)) ∈ lw_tbl := lw_at lw_m4 21 rfl
theorem q847 : (Jvm.Cond.instanceMethod ({ cls := "NineGraves", name := "canLend", desc := "(III)Z" } : Jvm.MethodName)) ∈ lw_all := lw_g (lw_at lw_m4 22 rfl) rfl
theorem q848 : (Jvm.Cond.code ({ cls := "NineGraves", name := "canLend", desc := "(III)Z" } : Jvm.MethodName) prog_1_method_23_code (4 : Nat) (Option.some Jvm.ClassFile.FieldType.boolean)) ∈ lw_all := lw_g (lw_at lw_m4 23 rfl) rfl
theorem q849 : (Jvm.Cond.methodLink "NineGraves" (156 : Nat) ({ cls := "NineGraves", name := "year", desc := "()I" } : Jvm.MethodName)) ∈ lw_all := lw_g (lw_at lw_m4 24 rfl) rfl
theorem q850 : (Jvm.Cond.privateMethod ({ cls := "NineGraves", name := "year", desc := "()I" } : Jvm.MethodName)) ∈ lw_tbl := lw_at lw_m4 25 rfl
theorem q851 : (Jvm.Cond.instanceMethod ({ cls := "NineGraves", name := "year", desc := "()I" } : Jvm.MethodName)) ∈ lw_all := lw_g (lw_at lw_m4 26 rfl) rfl
theorem q852 : (Jvm.Cond.code ({ cls := "NineGraves", name := "year", desc := "()I" } : Jvm.MethodName) prog_1_method_7_code (1 : Nat) (Option.some Jvm.ClassFile.FieldType.int)) ∈ lw_all := lw_g (lw_at lw_m4 27 rfl) rfl
theorem q853 : (Jvm.Cond.methodLink "NineGraves" (149 : Nat) ({ cls := "NineGraves", name := "bone", desc := "(II)I" } : Jvm.MethodName)) ∈ lw_all := lw_g (lw_at lw_m4 28 rfl) rfl
theorem q854 : (Jvm.Cond.privateMethod ({ cls := "NineGraves", name := "bone", desc := "(II)I" } : Jvm.MethodName)) ∈ lw_tbl := lw_at lw_m4 29 rfl
theorem q855 : (Jvm.Cond.instanceMethod ({ cls := "NineGraves", name := "bone", desc := "(II)I" } : Jvm.MethodName)) ∈ lw_all := lw_g (lw_at lw_m4 30 rfl) rfl
theorem q856 : (Jvm.Cond.code ({ cls := "NineGraves", name := "bone", desc := "(II)I" } : Jvm.MethodName) prog_1_method_5_code (3 : Nat) (Option.some Jvm.ClassFile.FieldType.int)) ∈ lw_all := lw_g (lw_at lw_m4 31 rfl) rfl
theorem q858 : (Jvm.Cond.instanceMethod ({ cls := "NineGraves", name := "swap", desc := "(II)Z" } : Jvm.MethodName)) ∈ lw_all := lw_g (lw_at lw_m4 33 rfl) rfl
theorem q859 : (Jvm.Cond.selects "NineGraves" ({ cls := "NineGraves", name := "swap", desc := "(II)Z" } : Jvm.MethodName) ({ cls := "NineGraves", name := "swap", desc := "(II)Z" } : Jvm.MethodName)) ∈ lw_all := lw_g (lw_at lw_m4 34 rfl) rfl
theorem q860 : (Jvm.Cond.code ({ cls := "NineGraves", name := "swap", desc := "(II)Z" } : Jvm.MethodName) prog_1_method_26_code (4 : Nat) (Option.some Jvm.ClassFile.FieldType.boolean)) ∈ lw_all := lw_g (lw_at lw_m4 35 rfl) rfl
theorem q862 : (Jvm.Cond.instanceMethod ({ cls := "NineGraves", name := "steal", desc := "(II)Z" } : Jvm.MethodName)) ∈ lw_all := lw_g (lw_at lw_m4 37 rfl) rfl
theorem q863 : (Jvm.Cond.selects "NineGraves" ({ cls := "NineGraves", name := "steal", desc := "(II)Z" } : Jvm.MethodName) ({ cls := "NineGraves", name := "steal", desc := "(II)Z" } : Jvm.MethodName)) ∈ lw_all := lw_g (lw_at lw_m4 38 rfl) rfl
theorem q864 : (Jvm.Cond.code ({ cls := "NineGraves", name := "steal", desc := "(II)Z" } : Jvm.MethodName) prog_1_method_27_code (3 : Nat) (Option.some Jvm.ClassFile.FieldType.boolean)) ∈ lw_all := lw_g (lw_at lw_m4 39 rfl) rfl
theorem q866 : (Jvm.Cond.instanceMethod ({ cls := "NineGraves", name := "burn", desc := "(I)I" } : Jvm.MethodName)) ∈ lw_all := lw_g (lw_at lw_m4 41 rfl) rfl
theorem q867 : (Jvm.Cond.selects "NineGraves" ({ cls := "NineGraves", name := "burn", desc := "(I)I" } : Jvm.MethodName) ({ cls := "NineGraves", name := "burn", desc := "(I)I" } : Jvm.MethodName)) ∈ lw_all := lw_g (lw_at lw_m4 42 rfl) rfl
theorem q868 : (Jvm.Cond.code ({ cls := "NineGraves", name := "burn", desc := "(I)I" } : Jvm.MethodName) prog_1_method_28_code (3 : Nat) (Option.some Jvm.ClassFile.FieldType.int)) ∈ lw_all := lw_g (lw_at lw_m4 43 rfl) rfl
theorem q869 : (Jvm.Cond.methodLink "NineGraves" (166 : Nat) ({ cls := "java/lang/Integer", name := "bitCount", desc := "(I)I" } : Jvm.MethodName)) ∈ lw_all := lw_g (lw_at lw_m4 44 rfl) rfl
theorem q876 : (Jvm.Cond.instanceMethod ({ cls := "NineGraves", name := "pass", desc := "(I)I" } : Jvm.MethodName)) ∈ lw_all := lw_g (lw_at lw_m4 51 rfl) rfl
theorem q877 : (Jvm.Cond.selects "NineGraves" ({ cls := "NineGraves", name := "pass", desc := "(I)I" } : Jvm.MethodName) ({ cls := "NineGraves", name := "pass", desc := "(I)I" } : Jvm.MethodName)) ∈ lw_all := lw_g (lw_at lw_m4 52 rfl) rfl
theorem q878 : (Jvm.Cond.code ({ cls := "NineGraves", name := "pass", desc := "(I)I" } : Jvm.MethodName) prog_1_method_30_code (4 : Nat) (Option.some Jvm.ClassFile.FieldType.int)) ∈ lw_all := lw_g (lw_at lw_m4 53 rfl) rfl
theorem q879 : (Jvm.Cond.methodLink "NineGraves" (192 : Nat) ({ cls := "NineGraves", name := "worn", desc := "(I)I" } : Jvm.MethodName)) ∈ lw_all := lw_g (lw_at lw_m4 54 rfl) rfl
theorem q880 : (Jvm.Cond.privateMethod ({ cls := "NineGraves", name := "worn", desc := "(I)I" } : Jvm.MethodName)) ∈ lw_tbl := lw_at lw_m4 55 rfl
theorem q881 : (Jvm.Cond.instanceMethod ({ cls := "NineGraves", name := "worn", desc := "(I)I" } : Jvm.MethodName)) ∈ lw_all := lw_g (lw_at lw_m4 56 rfl) rfl
theorem q882 : (Jvm.Cond.code ({ cls := "NineGraves", name := "worn", desc := "(I)I" } : Jvm.MethodName) prog_1_method_29_code (3 : Nat) (Option.some Jvm.ClassFile.FieldType.int)) ∈ lw_all := lw_g (lw_at lw_m4 57 rfl) rfl
theorem q883 : (Jvm.Cond.methodLink "NineGraves" (171 : Nat) ({ cls := "NineGraves", name := "rules", desc := "()LNineGraves$Text;" } : Jvm.MethodName)) ∈ lw_all := lw_g (lw_at lw_m4 58 rfl) rfl
theorem q884 : (Jvm.Cond.privateMethod ({ cls := "NineGraves", name := "rules", desc := "()LNineGraves$Text;" } : Jvm.MethodName)) ∈ lw_tbl := lw_at lw_m4 59 rfl
theorem q885 : (Jvm.Cond.instanceMethod ({ cls := "NineGraves", name := "rules", desc := "()LNineGraves$Text;" } : Jvm.MethodName)) ∈ lw_all := lw_g (lw_at lw_m4 60 rfl) rfl
theorem q886 : (Jvm.Cond.code ({ cls := "NineGraves", name := "rules", desc := "()LNineGraves$Text;" } : Jvm.MethodName) prog_1_method_21_code (1 : Nat) (Option.some (Jvm.ClassFile.FieldType.object "NineGraves$Text"))) ∈ lw_all := lw_g (lw_at lw_m4 61 rfl) rfl
theorem q887 : (Jvm.Cond.methodLink "NineGraves" (180 : Nat) ({ cls := "NineGraves", name := "names", desc := "(I)V" } : Jvm.MethodName)) ∈ lw_all := lw_g (lw_at lw_m4 62 rfl) rfl
theorem q888 : (Jvm.Cond.privateMethod ({ cls := "NineGraves", name := "names", desc := "(I)V" } : Jvm.MethodName)) ∈ lw_tbl := lw_at lw_m4 63 rfl
theorem q889 : (Jvm.Cond.instanceMethod ({ cls := "NineGraves", name := "names", desc := "(I)V" } : Jvm.MethodName)) ∈ lw_all := lw_g (lw_at lw_m4 64 rfl) rfl
theorem q890 : (Jvm.Cond.code ({ cls := "NineGraves", name := "names", desc := "(I)V" } : Jvm.MethodName) prog_1_method_22_code (2 : Nat) (Option.none : Option Jvm.ClassFile.FieldType)) ∈ lw_all := lw_g (lw_at lw_m4 65 rfl) rfl
theorem q891 : (Jvm.Cond.methodLink "NineGraves" (153 : Nat) ({ cls := "NineGraves", name := "proofsOf", desc := "(I)I" } : Jvm.MethodName)) ∈ lw_all := lw_g (lw_at lw_m4 66 rfl) rfl
theorem q892 : (Jvm.Cond.privateMethod ({ cls := "NineGraves", name := "proofsOf", desc := "(I)I" } : Jvm.MethodName)) ∈ lw_tbl := lw_at lw_m4 67 rfl
theorem q893 : (Jvm.Cond.instanceMethod ({ cls := "NineGraves", name := "proofsOf", desc := "(I)I" } : Jvm.MethodName)) ∈ lw_all := lw_g (lw_at lw_m4 68 rfl) rfl
theorem q894 : (Jvm.Cond.code ({ cls := "NineGraves", name := "proofsOf", desc := "(I)I" } : Jvm.MethodName) prog_1_method_13_code (4 : Nat) (Option.some Jvm.ClassFile.FieldType.int)) ∈ lw_all := lw_g (lw_at lw_m4 69 rfl) rfl
theorem q895 : (Jvm.Cond.interfaceEntry "NineGraves" (182 : Nat)) ∈ lw_tbl := lw_at lw_m4 70 rfl
theorem q896 : (Jvm.Cond.methodLink "NineGraves" (182 : Nat) ({ cls := "NineGraves$Sum", name := "of", desc := "([I)J" } : Jvm.MethodName)) ∈ lw_all := lw_g (lw_at lw_m4 71 rfl) rfl
theorem q943 : (Jvm.Cond.methodLink "NineGraves" (188 : Nat) ({ cls := "java/lang/Math", name := "max", desc := "(JJ)J" } : Jvm.MethodName)) ∈ lw_all := lw_g (lw_at lw_m4 118 rfl) rfl
theorem q944 : (Jvm.Cond.methodLink "NineGraves" (194 : Nat) ({ cls := "java/lang/Math", name := "max", desc := "(II)I" } : Jvm.MethodName)) ∈ lw_all := lw_g (lw_at lw_m4 119 rfl) rfl
theorem q946 : (Jvm.Cond.instanceMethod ({ cls := "NineGraves", name := "played", desc := "(I)I" } : Jvm.MethodName)) ∈ lw_all := lw_g (lw_at lw_m4 121 rfl) rfl
theorem q947 : (Jvm.Cond.selects "NineGraves" ({ cls := "NineGraves", name := "played", desc := "(I)I" } : Jvm.MethodName) ({ cls := "NineGraves", name := "played", desc := "(I)I" } : Jvm.MethodName)) ∈ lw_all := lw_g (lw_at lw_m4 122 rfl) rfl
theorem q948 : (Jvm.Cond.code ({ cls := "NineGraves", name := "played", desc := "(I)I" } : Jvm.MethodName) prog_1_method_32_code (4 : Nat) (Option.some Jvm.ClassFile.FieldType.int)) ∈ lw_all := lw_g (lw_at lw_m4 123 rfl) rfl
theorem q949 : (Jvm.Cond.methodLink "NineGraves" (226 : Nat) ({ cls := "java/util/ArrayList", name := "size", desc := "()I" } : Jvm.MethodName)) ∈ lw_all := lw_g (lw_at lw_m4 124 rfl) rfl
theorem q950 : (Jvm.Cond.methodLink "NineGraves" (231 : Nat) ({ cls := "java/util/ArrayList", name := "get", desc := "(I)Ljava/lang/Object;" } : Jvm.MethodName)) ∈ lw_all := lw_g (lw_at lw_m4 125 rfl) rfl
theorem q951 : (Jvm.Cond.classLink "NineGraves" (197 : Nat) "NineGraves$Doing") ∈ lw_all := lw_g (lw_at lw_m4 126 rfl) rfl
theorem q952 : (Jvm.Cond.methodLink "NineGraves" (235 : Nat) ({ cls := "NineGraves", name := "does", desc := "(LNineGraves$Doing;)Z" } : Jvm.MethodName)) ∈ lw_all := lw_g (lw_at lw_m4 127 rfl) rfl
theorem q953 : (Jvm.Cond.privateMethod ({ cls := "NineGraves", name := "does", desc := "(LNineGraves$Doing;)Z" } : Jvm.MethodName)) ∈ lw_tbl := lw_at lw_m4 128 rfl
theorem q954 : (Jvm.Cond.instanceMethod ({ cls := "NineGraves", name := "does", desc := "(LNineGraves$Doing;)Z" } : Jvm.MethodName)) ∈ lw_all := lw_g (lw_at lw_m4 129 rfl) rfl
theorem q955 : (Jvm.Cond.code ({ cls := "NineGraves", name := "does", desc := "(LNineGraves$Doing;)Z" } : Jvm.MethodName) prog_1_method_31_code (2 : Nat) (Option.some Jvm.ClassFile.FieldType.boolean)) ∈ lw_all := lw_g (lw_at lw_m4 130 rfl) rfl
theorem q956 : (Jvm.Cond.methodLink "NineGraves" (196 : Nat) ({ cls := "NineGraves$Doing", name := "sort", desc := "()I" } : Jvm.MethodName)) ∈ lw_all := lw_g (lw_at lw_m4 131 rfl) rfl
theorem q960 : (Jvm.Cond.methodLink "NineGraves" (201 : Nat) ({ cls := "NineGraves$Doing", name := "a", desc := "()I" } : Jvm.MethodName)) ∈ lw_all := lw_g (lw_at lw_m4 135 rfl) rfl
theorem q964 : (Jvm.Cond.methodLink "NineGraves" (204 : Nat) ({ cls := "NineGraves$Doing", name := "b", desc := "()I" } : Jvm.MethodName)) ∈ lw_all := lw_g (lw_at lw_m4 139 rfl) rfl
theorem q968 : (Jvm.Cond.methodLink "NineGraves" (207 : Nat) ({ cls := "NineGraves$Doing", name := "c", desc := "()I" } : Jvm.MethodName)) ∈ lw_all := lw_g (lw_at lw_m4 143 rfl) rfl
theorem q972 : (Jvm.Cond.methodLink "NineGraves" (210 : Nat) ({ cls := "NineGraves", name := "swap", desc := "(II)Z" } : Jvm.MethodName)) ∈ lw_all := lw_g (lw_at lw_m4 147 rfl) rfl
theorem q973 : (Jvm.Cond.methodLink "NineGraves" (213 : Nat) ({ cls := "NineGraves", name := "steal", desc := "(II)Z" } : Jvm.MethodName)) ∈ lw_all := lw_g (lw_at lw_m4 148 rfl) rfl
theorem q974 : (Jvm.Cond.methodLink "NineGraves" (216 : Nat) ({ cls := "NineGraves", name := "burn", desc := "(I)I" } : Jvm.MethodName)) ∈ lw_all := lw_g (lw_at lw_m4 149 rfl) rfl
theorem q975 : (Jvm.Cond.methodLink "NineGraves" (219 : Nat) ({ cls := "NineGraves", name := "pass", desc := "(I)I" } : Jvm.MethodName)) ∈ lw_all := lw_g (lw_at lw_m4 150 rfl) rfl
theorem q976 : (Jvm.Cond.methodLink "NineGraves" (239 : Nat) ({ cls := "NineGraves$Doing", name := "number", desc := "()I" } : Jvm.MethodName)) ∈ lw_all := lw_g (lw_at lw_m4 151 rfl) rfl
theorem q981 : (Jvm.Cond.instanceMethod ({ cls := "NineGraves", name := "undo", desc := "()I" } : Jvm.MethodName)) ∈ lw_all := lw_g (lw_at lw_m4 156 rfl) rfl
theorem q982 : (Jvm.Cond.selects "NineGraves" ({ cls := "NineGraves", name := "undo", desc := "()I" } : Jvm.MethodName) ({ cls := "NineGraves", name := "undo", desc := "()I" } : Jvm.MethodName)) ∈ lw_all := lw_g (lw_at lw_m4 157 rfl) rfl
theorem q983 : (Jvm.Cond.code ({ cls := "NineGraves", name := "undo", desc := "()I" } : Jvm.MethodName) prog_1_method_33_code (1 : Nat) (Option.some Jvm.ClassFile.FieldType.int)) ∈ lw_all := lw_g (lw_at lw_m4 158 rfl) rfl
theorem q984 : (Jvm.Cond.methodLinkNest "NineGraves" (242 : Nat) ({ cls := "NineGraves$State", name := "copy", desc := "([I[I)V" } : Jvm.MethodName) "NineGraves") ∈ lw_tbl := lw_at lw_m4 159 rfl
theorem q986 : (Jvm.Cond.instanceMethod ({ cls := "NineGraves", name := "of", desc := "(II)I" } : Jvm.MethodName)) ∈ lw_all := lw_g (lw_at lw_m4 161 rfl) rfl
theorem q987 : (Jvm.Cond.selects "NineGraves" ({ cls := "NineGraves", name := "of", desc := "(II)I" } : Jvm.MethodName) ({ cls := "NineGraves", name := "of", desc := "(II)I" } : Jvm.MethodName)) ∈ lw_all := lw_g (lw_at lw_m4 162 rfl) rfl
theorem q988 : (Jvm.Cond.code ({ cls := "NineGraves", name := "of", desc := "(II)I" } : Jvm.MethodName) prog_1_method_35_code (3 : Nat) (Option.some Jvm.ClassFile.FieldType.int)) ∈ lw_all := lw_g (lw_at lw_m4 163 rfl) rfl
theorem q989 : (Jvm.Cond.methodLink "NineGraves" (256 : Nat) ({ cls := "NineGraves", name := "isHoly", desc := "(I)Z" } : Jvm.MethodName)) ∈ lw_all := lw_g (lw_at lw_m4 164 rfl) rfl
theorem q990 : (Jvm.Cond.privateMethod ({ cls := "NineGraves", name := "isHoly", desc := "(I)Z" } : Jvm.MethodName)) ∈ lw_tbl := lw_at lw_m4 165 rfl
theorem q991 : (Jvm.Cond.instanceMethod ({ cls := "NineGraves", name := "isHoly", desc := "(I)Z" } : Jvm.MethodName)) ∈ lw_all := lw_g (lw_at lw_m4 166 rfl) rfl
theorem q992 : (Jvm.Cond.code ({ cls := "NineGraves", name := "isHoly", desc := "(I)Z" } : Jvm.MethodName) prog_1_method_34_code (3 : Nat) (Option.some Jvm.ClassFile.FieldType.boolean)) ∈ lw_all := lw_g (lw_at lw_m4 167 rfl) rfl
theorem q993 : (Jvm.Cond.interfaceEntry "NineGraves" (250 : Nat)) ∈ lw_tbl := lw_at lw_m4 168 rfl
theorem q994 : (Jvm.Cond.methodLink "NineGraves" (250 : Nat) ({ cls := "NineGraves$Asked", name := "is", desc := "([I)Z" } : Jvm.MethodName)) ∈ lw_all := lw_g (lw_at lw_m4 169 rfl) rfl
theorem q1025 : (Jvm.Cond.instanceMethod ({ cls := "NineGraves", name := "saints", desc := "(II)I" } : Jvm.MethodName)) ∈ lw_all := lw_g (lw_at lw_m4 200 rfl) rfl
theorem q1026 : (Jvm.Cond.selects "NineGraves" ({ cls := "NineGraves", name := "saints", desc := "(II)I" } : Jvm.MethodName) ({ cls := "NineGraves", name := "saints", desc := "(II)I" } : Jvm.MethodName)) ∈ lw_all := lw_g (lw_at lw_m4 201 rfl) rfl
theorem q1027 : (Jvm.Cond.code ({ cls := "NineGraves", name := "saints", desc := "(II)I" } : Jvm.MethodName) prog_1_method_40_code (4 : Nat) (Option.some Jvm.ClassFile.FieldType.int)) ∈ lw_all := lw_g (lw_at lw_m4 202 rfl) rfl
theorem q1028 : (Jvm.Cond.methodLink "NineGraves" (286 : Nat) ({ cls := "NineGraves", name := "laysSaints", desc := "(I)Z" } : Jvm.MethodName)) ∈ lw_all := lw_g (lw_at lw_m4 203 rfl) rfl
theorem q1029 : (Jvm.Cond.privateMethod ({ cls := "NineGraves", name := "laysSaints", desc := "(I)Z" } : Jvm.MethodName)) ∈ lw_tbl := lw_at lw_m4 204 rfl
theorem q1030 : (Jvm.Cond.instanceMethod ({ cls := "NineGraves", name := "laysSaints", desc := "(I)Z" } : Jvm.MethodName)) ∈ lw_all := lw_g (lw_at lw_m4 205 rfl) rfl
theorem q1031 : (Jvm.Cond.code ({ cls := "NineGraves", name := "laysSaints", desc := "(I)Z" } : Jvm.MethodName) prog_1_method_39_code (4 : Nat) (Option.some Jvm.ClassFile.FieldType.boolean)) ∈ lw_all := lw_g (lw_at lw_m4 206 rfl) rfl
theorem q1032 : (Jvm.Cond.methodLink "NineGraves" (277 : Nat) ({ cls := "NineGraves", name := "areUnlike", desc := "(II)Z" } : Jvm.MethodName)) ∈ lw_all := lw_g (lw_at lw_m4 207 rfl) rfl
theorem q1033 : (Jvm.Cond.privateMethod ({ cls := "NineGraves", name := "areUnlike", desc := "(II)Z" } : Jvm.MethodName)) ∈ lw_tbl := lw_at lw_m4 208 rfl
theorem q1034 : (Jvm.Cond.instanceMethod ({ cls := "NineGraves", name := "areUnlike", desc := "(II)Z" } : Jvm.MethodName)) ∈ lw_all := lw_g (lw_at lw_m4 209 rfl) rfl
theorem q1035 : (Jvm.Cond.code ({ cls := "NineGraves", name := "areUnlike", desc := "(II)Z" } : Jvm.MethodName) prog_1_method_36_code (4 : Nat) (Option.some Jvm.ClassFile.FieldType.boolean)) ∈ lw_all := lw_g (lw_at lw_m4 210 rfl) rfl
theorem q1036 : (Jvm.Cond.methodLink "NineGraves" (280 : Nat) ({ cls := "java/util/Arrays", name := "fill", desc := "([II)V" } : Jvm.MethodName)) ∈ lw_all := lw_g (lw_at lw_m4 211 rfl) rfl
theorem q1039 : (Jvm.Cond.methodLink "NineGraves" (274 : Nat) ({ cls := "NineGraves", name := "shares", desc := "(II)Z" } : Jvm.MethodName)) ∈ lw_all := lw_g (lw_at lw_m4 214 rfl) rfl
theorem q1040 : (Jvm.Cond.privateMethod ({ cls := "NineGraves", name := "shares", desc := "(II)Z" } : Jvm.MethodName)) ∈ lw_tbl := lw_at lw_m4 215 rfl
theorem q1041 : (Jvm.Cond.instanceMethod ({ cls := "NineGraves", name := "shares", desc := "(II)Z" } : Jvm.MethodName)) ∈ lw_all := lw_g (lw_at lw_m4 216 rfl) rfl
theorem q1042 : (Jvm.Cond.code ({ cls := "NineGraves", name := "shares", desc := "(II)Z" } : Jvm.MethodName) prog_1_method_38_code (7 : Nat) (Option.some Jvm.ClassFile.FieldType.boolean)) ∈ lw_all := lw_g (lw_at lw_m4 217 rfl) rfl
theorem q1043 : (Jvm.Cond.methodLink "NineGraves" (271 : Nat) ({ cls := "NineGraves", name := "manyOf", desc := "(I)I" } : Jvm.MethodName)) ∈ lw_all := lw_g (lw_at lw_m4 218 rfl) rfl
theorem q1044 : (Jvm.Cond.privateMethod ({ cls := "NineGraves", name := "manyOf", desc := "(I)I" } : Jvm.MethodName)) ∈ lw_tbl := lw_at lw_m4 219 rfl
theorem q1045 : (Jvm.Cond.instanceMethod ({ cls := "NineGraves", name := "manyOf", desc := "(I)I" } : Jvm.MethodName)) ∈ lw_all := lw_g (lw_at lw_m4 220 rfl) rfl
theorem q1046 : (Jvm.Cond.code ({ cls := "NineGraves", name := "manyOf", desc := "(I)I" } : Jvm.MethodName) prog_1_method_37_code (3 : Nat) (Option.some Jvm.ClassFile.FieldType.int)) ∈ lw_all := lw_g (lw_at lw_m4 221 rfl) rfl
theorem q1048 : (Jvm.Cond.instanceMethod ({ cls := "NineGraves", name := "rules", desc := "(II)Z" } : Jvm.MethodName)) ∈ lw_all := lw_g (lw_at lw_m4 223 rfl) rfl
theorem q1049 : (Jvm.Cond.selects "NineGraves" ({ cls := "NineGraves", name := "rules", desc := "(II)Z" } : Jvm.MethodName) ({ cls := "NineGraves", name := "rules", desc := "(II)Z" } : Jvm.MethodName)) ∈ lw_all := lw_g (lw_at lw_m4 224 rfl) rfl
theorem q1050 : (Jvm.Cond.code ({ cls := "NineGraves", name := "rules", desc := "(II)Z" } : Jvm.MethodName) prog_1_method_41_code (3 : Nat) (Option.some Jvm.ClassFile.FieldType.boolean)) ∈ lw_all := lw_g (lw_at lw_m4 225 rfl) rfl
theorem q1052 : (Jvm.Cond.instanceMethod ({ cls := "NineGraves", name := "seen", desc := "(IIII)I" } : Jvm.MethodName)) ∈ lw_all := lw_g (lw_at lw_m4 227 rfl) rfl
theorem q1053 : (Jvm.Cond.selects "NineGraves" ({ cls := "NineGraves", name := "seen", desc := "(IIII)I" } : Jvm.MethodName) ({ cls := "NineGraves", name := "seen", desc := "(IIII)I" } : Jvm.MethodName)) ∈ lw_all := lw_g (lw_at lw_m4 228 rfl) rfl
theorem q1054 : (Jvm.Cond.code ({ cls := "NineGraves", name := "seen", desc := "(IIII)I" } : Jvm.MethodName) prog_1_method_42_code (6 : Nat) (Option.some Jvm.ClassFile.FieldType.int)) ∈ lw_all := lw_g (lw_at lw_m4 229 rfl) rfl
theorem q1056 : (Jvm.Cond.instanceMethod ({ cls := "NineGraves", name := "forget", desc := "()I" } : Jvm.MethodName)) ∈ lw_all := lw_g (lw_at lw_m4 231 rfl) rfl
theorem q1057 : (Jvm.Cond.selects "NineGraves" ({ cls := "NineGraves", name := "forget", desc := "()I" } : Jvm.MethodName) ({ cls := "NineGraves", name := "forget", desc := "()I" } : Jvm.MethodName)) ∈ lw_all := lw_g (lw_at lw_m4 232 rfl) rfl
theorem q1058 : (Jvm.Cond.code ({ cls := "NineGraves", name := "forget", desc := "()I" } : Jvm.MethodName) prog_1_method_43_code (2 : Nat) (Option.some Jvm.ClassFile.FieldType.int)) ∈ lw_all := lw_g (lw_at lw_m4 233 rfl) rfl
theorem q1060 : (Jvm.Cond.instanceMethod ({ cls := "NineGraves", name := "same", desc := "(II)Z" } : Jvm.MethodName)) ∈ lw_all := lw_g (lw_at lw_m4 235 rfl) rfl
theorem q1061 : (Jvm.Cond.selects "NineGraves" ({ cls := "NineGraves", name := "same", desc := "(II)Z" } : Jvm.MethodName) ({ cls := "NineGraves", name := "same", desc := "(II)Z" } : Jvm.MethodName)) ∈ lw_all := lw_g (lw_at lw_m4 236 rfl) rfl
theorem q1062 : (Jvm.Cond.code ({ cls := "NineGraves", name := "same", desc := "(II)Z" } : Jvm.MethodName) prog_1_method_46_code (3 : Nat) (Option.some Jvm.ClassFile.FieldType.boolean)) ∈ lw_all := lw_g (lw_at lw_m4 237 rfl) rfl
theorem q1063 : (Jvm.Cond.methodLink "NineGraves" (295 : Nat) ({ cls := "NineGraves", name := "isSeen", desc := "(I)Z" } : Jvm.MethodName)) ∈ lw_all := lw_g (lw_at lw_m4 238 rfl) rfl
theorem q1064 : (Jvm.Cond.privateMethod ({ cls := "NineGraves", name := "isSeen", desc := "(I)Z" } : Jvm.MethodName)) ∈ lw_tbl := lw_at lw_m4 239 rfl
theorem q1065 : (Jvm.Cond.instanceMethod ({ cls := "NineGraves", name := "isSeen", desc := "(I)Z" } : Jvm.MethodName)) ∈ lw_all := lw_g (lw_at lw_m5 0 rfl) rfl
theorem q1066 : (Jvm.Cond.code ({ cls := "NineGraves", name := "isSeen", desc := "(I)Z" } : Jvm.MethodName) prog_1_method_44_code (2 : Nat) (Option.some Jvm.ClassFile.FieldType.boolean)) ∈ lw_all := lw_g (lw_at lw_m5 1 rfl) rfl
theorem q1067 : (Jvm.Cond.methodLink "NineGraves" (298 : Nat) ({ cls := "NineGraves", name := "isSame", desc := "(II)Z" } : Jvm.MethodName)) ∈ lw_all := lw_g (lw_at lw_m5 2 rfl) rfl
theorem q1068 : (Jvm.Cond.privateMethod ({ cls := "NineGraves", name := "isSame", desc := "(II)Z" } : Jvm.MethodName)) ∈ lw_tbl := lw_at lw_m5 3 rfl
theorem q1069 : (Jvm.Cond.instanceMethod ({ cls := "NineGraves", name := "isSame", desc := "(II)Z" } : Jvm.MethodName)) ∈ lw_all := lw_g (lw_at lw_m5 4 rfl) rfl
theorem q1070 : (Jvm.Cond.code ({ cls := "NineGraves", name := "isSame", desc := "(II)Z" } : Jvm.MethodName) prog_1_method_45_code (7 : Nat) (Option.some Jvm.ClassFile.FieldType.boolean)) ∈ lw_all := lw_g (lw_at lw_m5 5 rfl) rfl
theorem q1071 : (Jvm.Cond.methodLink "NineGraves" (292 : Nat) ({ cls := "NineGraves", name := "miles", desc := "(II)I" } : Jvm.MethodName)) ∈ lw_all := lw_g (lw_at lw_m5 6 rfl) rfl
theorem q1072 : (Jvm.Cond.privateMethod ({ cls := "NineGraves", name := "miles", desc := "(II)I" } : Jvm.MethodName)) ∈ lw_tbl := lw_at lw_m5 7 rfl
theorem q1073 : (Jvm.Cond.instanceMethod ({ cls := "NineGraves", name := "miles", desc := "(II)I" } : Jvm.MethodName)) ∈ lw_all := lw_g (lw_at lw_m5 8 rfl) rfl
theorem q1074 : (Jvm.Cond.code ({ cls := "NineGraves", name := "miles", desc := "(II)I" } : Jvm.MethodName) prog_1_method_8_code (3 : Nat) (Option.some Jvm.ClassFile.FieldType.int)) ∈ lw_all := lw_g (lw_at lw_m5 9 rfl) rfl
theorem q1075 : (Jvm.Cond.methodLink "NineGraves" (84 : Nat) ({ cls := "java/lang/Math", name := "abs", desc := "(I)I" } : Jvm.MethodName)) ∈ lw_all := lw_g (lw_at lw_m5 10 rfl) rfl
theorem q1079 : (Jvm.Cond.instanceMethod ({ cls := "NineGraves", name := "best", desc := "(I)I" } : Jvm.MethodName)) ∈ lw_all := lw_g (lw_at lw_m5 14 rfl) rfl
theorem q1080 : (Jvm.Cond.selects "NineGraves" ({ cls := "NineGraves", name := "best", desc := "(I)I" } : Jvm.MethodName) ({ cls := "NineGraves", name := "best", desc := "(I)I" } : Jvm.MethodName)) ∈ lw_all := lw_g (lw_at lw_m5 15 rfl) rfl
theorem q1081 : (Jvm.Cond.code ({ cls := "NineGraves", name := "best", desc := "(I)I" } : Jvm.MethodName) prog_1_method_50_code (3 : Nat) (Option.some Jvm.ClassFile.FieldType.int)) ∈ lw_all := lw_g (lw_at lw_m5 16 rfl) rfl
theorem q1082 : (Jvm.Cond.methodLink "NineGraves" (311 : Nat) ({ cls := "NineGraves", name := "laysHistories", desc := "()V" } : Jvm.MethodName)) ∈ lw_all := lw_g (lw_at lw_m5 17 rfl) rfl
theorem q1083 : (Jvm.Cond.privateMethod ({ cls := "NineGraves", name := "laysHistories", desc := "()V" } : Jvm.MethodName)) ∈ lw_tbl := lw_at lw_m5 18 rfl
theorem q1084 : (Jvm.Cond.instanceMethod ({ cls := "NineGraves", name := "laysHistories", desc := "()V" } : Jvm.MethodName)) ∈ lw_all := lw_g (lw_at lw_m5 19 rfl) rfl
theorem q1085 : (Jvm.Cond.code ({ cls := "NineGraves", name := "laysHistories", desc := "()V" } : Jvm.MethodName) prog_1_method_49_code (9 : Nat) (Option.none : Option Jvm.ClassFile.FieldType)) ∈ lw_all := lw_g (lw_at lw_m5 20 rfl) rfl
theorem q1086 : (Jvm.Cond.methodLink "NineGraves" (301 : Nat) ({ cls := "java/util/Arrays", name := "fill", desc := "([JJ)V" } : Jvm.MethodName)) ∈ lw_all := lw_g (lw_at lw_m5 21 rfl) rfl
theorem q1089 : (Jvm.Cond.methodLink "NineGraves" (304 : Nat) ({ cls := "NineGraves", name := "worthOf", desc := "(III)I" } : Jvm.MethodName)) ∈ lw_all := lw_g (lw_at lw_m5 24 rfl) rfl
theorem q1090 : (Jvm.Cond.privateMethod ({ cls := "NineGraves", name := "worthOf", desc := "(III)I" } : Jvm.MethodName)) ∈ lw_tbl := lw_at lw_m5 25 rfl
theorem q1091 : (Jvm.Cond.instanceMethod ({ cls := "NineGraves", name := "worthOf", desc := "(III)I" } : Jvm.MethodName)) ∈ lw_all := lw_g (lw_at lw_m5 26 rfl) rfl
theorem q1092 : (Jvm.Cond.code ({ cls := "NineGraves", name := "worthOf", desc := "(III)I" } : Jvm.MethodName) prog_1_method_47_code (4 : Nat) (Option.some Jvm.ClassFile.FieldType.int)) ∈ lw_all := lw_g (lw_at lw_m5 27 rfl) rfl
theorem q1093 : (Jvm.Cond.methodLink "NineGraves" (308 : Nat) ({ cls := "NineGraves", name := "may", desc := "(III)Z" } : Jvm.MethodName)) ∈ lw_all := lw_g (lw_at lw_m5 28 rfl) rfl
theorem q1094 : (Jvm.Cond.privateMethod ({ cls := "NineGraves", name := "may", desc := "(III)Z" } : Jvm.MethodName)) ∈ lw_tbl := lw_at lw_m5 29 rfl
theorem q1095 : (Jvm.Cond.instanceMethod ({ cls := "NineGraves", name := "may", desc := "(III)Z" } : Jvm.MethodName)) ∈ lw_all := lw_g (lw_at lw_m5 30 rfl) rfl
theorem q1096 : (Jvm.Cond.code ({ cls := "NineGraves", name := "may", desc := "(III)Z" } : Jvm.MethodName) prog_1_method_48_code (4 : Nat) (Option.some Jvm.ClassFile.FieldType.boolean)) ∈ lw_all := lw_g (lw_at lw_m5 31 rfl) rfl
theorem q1098 : (Jvm.Cond.instanceMethod ({ cls := "NineGraves", name := "histories", desc := "()J" } : Jvm.MethodName)) ∈ lw_all := lw_g (lw_at lw_m5 33 rfl) rfl
theorem q1099 : (Jvm.Cond.selects "NineGraves" ({ cls := "NineGraves", name := "histories", desc := "()J" } : Jvm.MethodName) ({ cls := "NineGraves", name := "histories", desc := "()J" } : Jvm.MethodName)) ∈ lw_all := lw_g (lw_at lw_m5 34 rfl) rfl
theorem q1100 : (Jvm.Cond.code ({ cls := "NineGraves", name := "histories", desc := "()J" } : Jvm.MethodName) prog_1_method_51_code (1 : Nat) (Option.some Jvm.ClassFile.FieldType.long)) ∈ lw_all := lw_g (lw_at lw_m5 35 rfl) rfl
theorem q1102 : (Jvm.Cond.instanceMethod ({ cls := "NineGraves", name := "led", desc := "(I)I" } : Jvm.MethodName)) ∈ lw_all := lw_g (lw_at lw_m5 37 rfl) rfl
theorem q1103 : (Jvm.Cond.selects "NineGraves" ({ cls := "NineGraves", name := "led", desc := "(I)I" } : Jvm.MethodName) ({ cls := "NineGraves", name := "led", desc := "(I)I" } : Jvm.MethodName)) ∈ lw_all := lw_g (lw_at lw_m5 38 rfl) rfl
theorem q1104 : (Jvm.Cond.code ({ cls := "NineGraves", name := "led", desc := "(I)I" } : Jvm.MethodName) prog_1_method_52_code (5 : Nat) (Option.some Jvm.ClassFile.FieldType.int)) ∈ lw_all := lw_g (lw_at lw_m5 39 rfl) rfl
theorem q1106 : (Jvm.Cond.instanceMethod ({ cls := "NineGraves", name := "chance", desc := "(IIII)J" } : Jvm.MethodName)) ∈ lw_all := lw_g (lw_at lw_m5 41 rfl) rfl
theorem q1107 : (Jvm.Cond.selects "NineGraves" ({ cls := "NineGraves", name := "chance", desc := "(IIII)J" } : Jvm.MethodName) ({ cls := "NineGraves", name := "chance", desc := "(IIII)J" } : Jvm.MethodName)) ∈ lw_all := lw_g (lw_at lw_m5 42 rfl) rfl
theorem q1108 : (Jvm.Cond.code ({ cls := "NineGraves", name := "chance", desc := "(IIII)J" } : Jvm.MethodName) prog_1_method_55_code (13 : Nat) (Option.some Jvm.ClassFile.FieldType.long)) ∈ lw_all := lw_g (lw_at lw_m5 43 rfl) rfl
theorem q1109 : (Jvm.Cond.constantLong "NineGraves" (317 : Nat) (-1 : Int64)) ∈ lw_all := lw_g (lw_at lw_m5 44 rfl) rfl
theorem q1110 : (Jvm.Cond.methodLink "NineGraves" (319 : Nat) ({ cls := "NineGraves", name := "power", desc := "(JI)J" } : Jvm.MethodName)) ∈ lw_all := lw_g (lw_at lw_m5 45 rfl) rfl
theorem q1111 : (Jvm.Cond.static ({ cls := "NineGraves", name := "power", desc := "(JI)J" } : Jvm.MethodName)) ∈ lw_all := lw_g (lw_at lw_m5 46 rfl) rfl
theorem q1112 : (Jvm.Cond.code ({ cls := "NineGraves", name := "power", desc := "(JI)J" } : Jvm.MethodName) prog_1_method_54_code (6 : Nat) (Option.some Jvm.ClassFile.FieldType.long)) ∈ lw_all := lw_g (lw_at lw_m5 47 rfl) rfl
theorem q1113 : (Jvm.Cond.constantLong "NineGraves" (323 : Nat) (6 : Int64)) ∈ lw_all := lw_g (lw_at lw_m5 48 rfl) rfl
theorem q1114 : (Jvm.Cond.methodLink "NineGraves" (314 : Nat) ({ cls := "NineGraves", name := "common", desc := "(JJ)J" } : Jvm.MethodName)) ∈ lw_all := lw_g (lw_at lw_m5 49 rfl) rfl
theorem q1115 : (Jvm.Cond.static ({ cls := "NineGraves", name := "common", desc := "(JJ)J" } : Jvm.MethodName)) ∈ lw_all := lw_g (lw_at lw_m5 50 rfl) rfl
theorem q1116 : (Jvm.Cond.code ({ cls := "NineGraves", name := "common", desc := "(JJ)J" } : Jvm.MethodName) prog_1_method_53_code (4 : Nat) (Option.some Jvm.ClassFile.FieldType.long)) ∈ lw_all := lw_g (lw_at lw_m5 51 rfl) rfl
theorem q1118 : (Jvm.Cond.instanceMethod ({ cls := "NineGraves", name := "round", desc := "(II)I" } : Jvm.MethodName)) ∈ lw_all := lw_g (lw_at lw_m5 53 rfl) rfl
theorem q1119 : (Jvm.Cond.selects "NineGraves" ({ cls := "NineGraves", name := "round", desc := "(II)I" } : Jvm.MethodName) ({ cls := "NineGraves", name := "round", desc := "(II)I" } : Jvm.MethodName)) ∈ lw_all := lw_g (lw_at lw_m5 54 rfl) rfl
theorem q1120 : (Jvm.Cond.code ({ cls := "NineGraves", name := "round", desc := "(II)I" } : Jvm.MethodName) prog_1_method_57_code (4 : Nat) (Option.some Jvm.ClassFile.FieldType.int)) ∈ lw_all := lw_g (lw_at lw_m5 55 rfl) rfl
theorem q1121 : (Jvm.Cond.methodLink "NineGraves" (331 : Nat) ({ cls := "NineGraves", name := "goesRound", desc := "(III)V" } : Jvm.MethodName)) ∈ lw_all := lw_g (lw_at lw_m5 56 rfl) rfl
theorem q1122 : (Jvm.Cond.privateMethod ({ cls := "NineGraves", name := "goesRound", desc := "(III)V" } : Jvm.MethodName)) ∈ lw_tbl := lw_at lw_m5 57 rfl
theorem q1123 : (Jvm.Cond.instanceMethod ({ cls := "NineGraves", name := "goesRound", desc := "(III)V" } : Jvm.MethodName)) ∈ lw_all := lw_g (lw_at lw_m5 58 rfl) rfl
theorem q1124 : (Jvm.Cond.code ({ cls := "NineGraves", name := "goesRound", desc := "(III)V" } : Jvm.MethodName) prog_1_method_56_code (5 : Nat) (Option.none : Option Jvm.ClassFile.FieldType)) ∈ lw_all := lw_g (lw_at lw_m5 59 rfl) rfl
theorem q1126 : (Jvm.Cond.instanceMethod ({ cls := "NineGraves", name := "pilgrims", desc := "(IIII)I" } : Jvm.MethodName)) ∈ lw_all := lw_g (lw_at lw_m5 61 rfl) rfl
theorem q1127 : (Jvm.Cond.selects "NineGraves" ({ cls := "NineGraves", name := "pilgrims", desc := "(IIII)I" } : Jvm.MethodName) ({ cls := "NineGraves", name := "pilgrims", desc := "(IIII)I" } : Jvm.MethodName)) ∈ lw_all := lw_g (lw_at lw_m5 62 rfl) rfl
theorem q1128 : (Jvm.Cond.code ({ cls := "NineGraves", name := "pilgrims", desc := "(IIII)I" } : Jvm.MethodName) prog_1_method_60_code (8 : Nat) (Option.some Jvm.ClassFile.FieldType.int)) ∈ lw_all := lw_g (lw_at lw_m5 63 rfl) rfl
theorem q1129 : (Jvm.Cond.methodLink "NineGraves" (336 : Nat) ({ cls := "NineGraves", name := "draw", desc := "(I)I" } : Jvm.MethodName)) ∈ lw_all := lw_g (lw_at lw_m5 64 rfl) rfl
theorem q1130 : (Jvm.Cond.privateMethod ({ cls := "NineGraves", name := "draw", desc := "(I)I" } : Jvm.MethodName)) ∈ lw_tbl := lw_at lw_m5 65 rfl
theorem q1131 : (Jvm.Cond.instanceMethod ({ cls := "NineGraves", name := "draw", desc := "(I)I" } : Jvm.MethodName)) ∈ lw_all := lw_g (lw_at lw_m5 66 rfl) rfl
theorem q1132 : (Jvm.Cond.code ({ cls := "NineGraves", name := "draw", desc := "(I)I" } : Jvm.MethodName) prog_1_method_58_code (3 : Nat) (Option.some Jvm.ClassFile.FieldType.int)) ∈ lw_all := lw_g (lw_at lw_m5 67 rfl) rfl
theorem q1133 : (Jvm.Cond.methodLink "NineGraves" (339 : Nat) ({ cls := "NineGraves", name := "hasHoly", desc := "(I)Z" } : Jvm.MethodName)) ∈ lw_all := lw_g (lw_at lw_m5 68 rfl) rfl
theorem q1134 : (Jvm.Cond.privateMethod ({ cls := "NineGraves", name := "hasHoly", desc := "(I)Z" } : Jvm.MethodName)) ∈ lw_tbl := lw_at lw_m5 69 rfl
theorem q1135 : (Jvm.Cond.instanceMethod ({ cls := "NineGraves", name := "hasHoly", desc := "(I)Z" } : Jvm.MethodName)) ∈ lw_all := lw_g (lw_at lw_m5 70 rfl) rfl
theorem q1136 : (Jvm.Cond.code ({ cls := "NineGraves", name := "hasHoly", desc := "(I)Z" } : Jvm.MethodName) prog_1_method_59_code (3 : Nat) (Option.some Jvm.ClassFile.FieldType.boolean)) ∈ lw_all := lw_g (lw_at lw_m5 71 rfl) rfl
theorem q1138 : (Jvm.Cond.instanceMethod ({ cls := "NineGraves", name := "image", desc := "()I" } : Jvm.MethodName)) ∈ lw_all := lw_g (lw_at lw_m5 73 rfl) rfl
theorem q1139 : (Jvm.Cond.selects "NineGraves" ({ cls := "NineGraves", name := "image", desc := "()I" } : Jvm.MethodName) ({ cls := "NineGraves", name := "image", desc := "()I" } : Jvm.MethodName)) ∈ lw_all := lw_g (lw_at lw_m5 74 rfl) rfl
theorem q1140 : (Jvm.Cond.code ({ cls := "NineGraves", name := "image", desc := "()I" } : Jvm.MethodName) prog_1_method_61_code (1 : Nat) (Option.some Jvm.ClassFile.FieldType.int)) ∈ lw_all := lw_g (lw_at lw_m5 75 rfl) rfl
theorem q1142 : (Jvm.Cond.instanceMethod ({ cls := "NineGraves", name := "back", desc := "()I" } : Jvm.MethodName)) ∈ lw_all := lw_g (lw_at lw_m5 77 rfl) rfl
theorem q1143 : (Jvm.Cond.selects "NineGraves" ({ cls := "NineGraves", name := "back", desc := "()I" } : Jvm.MethodName) ({ cls := "NineGraves", name := "back", desc := "()I" } : Jvm.MethodName)) ∈ lw_all := lw_g (lw_at lw_m5 78 rfl) rfl
theorem q1144 : (Jvm.Cond.code ({ cls := "NineGraves", name := "back", desc := "()I" } : Jvm.MethodName) prog_1_method_62_code (1 : Nat) (Option.some Jvm.ClassFile.FieldType.int)) ∈ lw_all := lw_g (lw_at lw_m5 79 rfl) rfl
theorem q1146 : (Jvm.Cond.instanceMethod ({ cls := "NineGraves", name := "about", desc := "(I)I" } : Jvm.MethodName)) ∈ lw_all := lw_g (lw_at lw_m5 81 rfl) rfl
theorem q1147 : (Jvm.Cond.selects "NineGraves" ({ cls := "NineGraves", name := "about", desc := "(I)I" } : Jvm.MethodName) ({ cls := "NineGraves", name := "about", desc := "(I)I" } : Jvm.MethodName)) ∈ lw_all := lw_g (lw_at lw_m5 82 rfl) rfl
theorem q1148 : (Jvm.Cond.code ({ cls := "NineGraves", name := "about", desc := "(I)I" } : Jvm.MethodName) prog_1_method_64_code (2 : Nat) (Option.some Jvm.ClassFile.FieldType.int)) ∈ lw_all := lw_g (lw_at lw_m5 83 rfl) rfl
theorem q1149 : (Jvm.Cond.methodLink "NineGraves" (342 : Nat) ({ cls := "NineGraves", name := "atTown", desc := "(I)I" } : Jvm.MethodName)) ∈ lw_all := lw_g (lw_at lw_m5 84 rfl) rfl
theorem q1150 : (Jvm.Cond.privateMethod ({ cls := "NineGraves", name := "atTown", desc := "(I)I" } : Jvm.MethodName)) ∈ lw_tbl := lw_at lw_m5 85 rfl
theorem q1151 : (Jvm.Cond.instanceMethod ({ cls := "NineGraves", name := "atTown", desc := "(I)I" } : Jvm.MethodName)) ∈ lw_all := lw_g (lw_at lw_m5 86 rfl) rfl
theorem q1152 : (Jvm.Cond.code ({ cls := "NineGraves", name := "atTown", desc := "(I)I" } : Jvm.MethodName) prog_1_method_63_code (4 : Nat) (Option.some Jvm.ClassFile.FieldType.int)) ∈ lw_all := lw_g (lw_at lw_m5 87 rfl) rfl
theorem q1682 : (Jvm.Cond.castable "NineGraves" "java/lang/Object") ∈ lw_tbl := lw_at lw_m7 137 rfl
theorem in_X0 : ∀ w ∈ wsX00, w ∈ lw_all := lw_in wsX00 [225, 227, 229, 231, 233, 235, 237, 239, 241, 243, 245, 247, 249, 251, 253, 255, 257, 259, 261, 263, 265] (by decide +kernel) (by decide +kernel)
/-! NineGraves$State -/
set_option maxRecDepth 100000
def RX1 : String := "NineGraves$State"
def TX1 : u_T := fun k => match k with
  | 0 => ("NineGraves$State", "n", "[I", true)
  | 1 => ("NineGraves$State", "x", "[I", true)
  | 2 => ("NineGraves$State", "y", "[I", true)
  | 3 => ("NineGraves$State", "row", "[I", true)
  | 4 => ("NineGraves$State", "step", "[[I", true)
  | 5 => ("NineGraves$State", "seen", "[[I", true)
  | _ => ("NineGraves$State", "text", "[LNineGraves$Text;", true)
def tyX1 : Nat → FieldType := fun k => match k with
  | 0 => .array .int
  | 1 => .array .int
  | 2 => .array .int
  | 3 => .array .int
  | 4 => .array (.array .int)
  | 5 => .array (.array .int)
  | _ => .array (.object "NineGraves$Text")
abbrev wsX10 : List Cond := u_ws RX1 TX1 7
theorem nmX1 : ∀ a, a < 7 → ∀ b, b < 7 → a ≠ b → (TX1 a).2.1 ≠ (TX1 b).2.1 := by decide +kernel
theorem tyX1_ok : ∀ k, k < 7 → parseFieldDescriptor (TX1 k).2.2.1 = some (tyX1 k) := by decide +kernel
abbrev cX1_init : ByteArray := prog_11_method_1_code
def yX1_init : MethodName := ⟨RX1, "<init>", "()V"⟩
abbrev cX1_be : ByteArray := prog_11_method_4_code
def yX1_be : MethodName := ⟨RX1, "be", "(LNineGraves$State;)V"⟩
abbrev cX1_copy : ByteArray := prog_11_method_2_code
def yX1_copy : MethodName := ⟨RX1, "copy", "([I[I)V"⟩
abbrev cX1_copy_2 : ByteArray := prog_11_method_3_code
def yX1_copy_2 : MethodName := ⟨RX1, "copy", "([[I[[I)V"⟩
abbrev cX1_keeps : ByteArray := prog_11_method_5_code
def yX1_keeps : MethodName := ⟨RX1, "keeps", "()V"⟩
theorem q107 : (Jvm.Cond.initialized "NineGraves$State") ∈ lw_all := lw_g (lw_at lw_m1 2 rfl) rfl
theorem q147 : (Jvm.Cond.instantiable "NineGraves$State" (7 : Nat)) ∈ lw_all := lw_g (lw_at lw_m1 42 rfl) rfl
theorem q149 : (Jvm.Cond.instanceMethod ({ cls := "NineGraves$State", name := "<init>", desc := "()V" } : Jvm.MethodName)) ∈ lw_all := lw_g (lw_at lw_m1 44 rfl) rfl
theorem q150 : (Jvm.Cond.code ({ cls := "NineGraves$State", name := "<init>", desc := "()V" } : Jvm.MethodName) prog_11_method_1_code (1 : Nat) (Option.none : Option Jvm.ClassFile.FieldType)) ∈ lw_all := lw_g (lw_at lw_m1 45 rfl) rfl
theorem q151 : (Jvm.Cond.methodLink "NineGraves$State" (3 : Nat) ({ cls := "java/lang/Object", name := "<init>", desc := "()V" } : Jvm.MethodName)) ∈ lw_all := lw_g (lw_at lw_m1 46 rfl) rfl
theorem q152 : (Jvm.Cond.classLink "NineGraves$State" (24 : Nat) "[[I") ∈ lw_all := lw_g (lw_at lw_m1 47 rfl) rfl
theorem q154 : (Jvm.Cond.classLink "NineGraves$State" (32 : Nat) "NineGraves$Text") ∈ lw_all := lw_g (lw_at lw_m1 49 rfl) rfl
theorem q156 : (Jvm.Cond.fieldLink "NineGraves$State" (9 : Nat) "NineGraves$State" "n" "[I") ∈ lw_all := lw_g (lw_at lw_m1 51 rfl) rfl
theorem q158 : (Jvm.Cond.fieldLink "NineGraves$State" (15 : Nat) "NineGraves$State" "x" "[I") ∈ lw_all := lw_g (lw_at lw_m1 53 rfl) rfl
theorem q160 : (Jvm.Cond.fieldLink "NineGraves$State" (18 : Nat) "NineGraves$State" "y" "[I") ∈ lw_all := lw_g (lw_at lw_m1 55 rfl) rfl
theorem q162 : (Jvm.Cond.fieldLink "NineGraves$State" (21 : Nat) "NineGraves$State" "row" "[I") ∈ lw_all := lw_g (lw_at lw_m1 57 rfl) rfl
theorem q164 : (Jvm.Cond.fieldLink "NineGraves$State" (26 : Nat) "NineGraves$State" "step" "[[I") ∈ lw_all := lw_g (lw_at lw_m1 59 rfl) rfl
theorem q166 : (Jvm.Cond.fieldLink "NineGraves$State" (29 : Nat) "NineGraves$State" "seen" "[[I") ∈ lw_all := lw_g (lw_at lw_m1 61 rfl) rfl
theorem q168 : (Jvm.Cond.fieldLink "NineGraves$State" (34 : Nat) "NineGraves$State" "text" "[LNineGraves$Text;") ∈ lw_all := lw_g (lw_at lw_m1 63 rfl) rfl
theorem q170 : (Jvm.Cond.laysFinal "NineGraves$State" "NineGraves$State" "n" "[I") ∈ lw_all := lw_g (lw_at lw_m1 65 rfl) rfl
theorem q171 : (Jvm.Cond.soleField "NineGraves$State" "n") ∈ lw_all := lw_g (lw_at lw_m1 66 rfl) rfl
theorem q172 : (Jvm.Cond.laysFinal "NineGraves$State" "NineGraves$State" "x" "[I") ∈ lw_all := lw_g (lw_at lw_m1 67 rfl) rfl
theorem q173 : (Jvm.Cond.soleField "NineGraves$State" "x") ∈ lw_all := lw_g (lw_at lw_m1 68 rfl) rfl
theorem q174 : (Jvm.Cond.laysFinal "NineGraves$State" "NineGraves$State" "y" "[I") ∈ lw_all := lw_g (lw_at lw_m1 69 rfl) rfl
theorem q175 : (Jvm.Cond.soleField "NineGraves$State" "y") ∈ lw_all := lw_g (lw_at lw_m1 70 rfl) rfl
theorem q176 : (Jvm.Cond.laysFinal "NineGraves$State" "NineGraves$State" "row" "[I") ∈ lw_all := lw_g (lw_at lw_m1 71 rfl) rfl
theorem q177 : (Jvm.Cond.soleField "NineGraves$State" "row") ∈ lw_all := lw_g (lw_at lw_m1 72 rfl) rfl
theorem q178 : (Jvm.Cond.laysFinal "NineGraves$State" "NineGraves$State" "step" "[[I") ∈ lw_all := lw_g (lw_at lw_m1 73 rfl) rfl
theorem q179 : (Jvm.Cond.soleField "NineGraves$State" "step") ∈ lw_all := lw_g (lw_at lw_m1 74 rfl) rfl
theorem q180 : (Jvm.Cond.laysFinal "NineGraves$State" "NineGraves$State" "seen" "[[I") ∈ lw_all := lw_g (lw_at lw_m1 75 rfl) rfl
theorem q181 : (Jvm.Cond.soleField "NineGraves$State" "seen") ∈ lw_all := lw_g (lw_at lw_m1 76 rfl) rfl
theorem q182 : (Jvm.Cond.laysFinal "NineGraves$State" "NineGraves$State" "text" "[LNineGraves$Text;") ∈ lw_all := lw_g (lw_at lw_m1 77 rfl) rfl
theorem q183 : (Jvm.Cond.soleField "NineGraves$State" "text") ∈ lw_all := lw_g (lw_at lw_m1 78 rfl) rfl
theorem q184 : (Jvm.Cond.superclass "NineGraves$State" "java/lang/Object") ∈ lw_all := lw_g (lw_at lw_m1 79 rfl) rfl
theorem q192 : (Jvm.Cond.instanceMethod ({ cls := "NineGraves$State", name := "be", desc := "(LNineGraves$State;)V" } : Jvm.MethodName)) ∈ lw_all := lw_g (lw_at lw_m1 87 rfl) rfl
theorem q193 : (Jvm.Cond.selects "NineGraves$State" ({ cls := "NineGraves$State", name := "be", desc := "(LNineGraves$State;)V" } : Jvm.MethodName) ({ cls := "NineGraves$State", name := "be", desc := "(LNineGraves$State;)V" } : Jvm.MethodName)) ∈ lw_all := lw_g (lw_at lw_m1 88 rfl) rfl
theorem q194 : (Jvm.Cond.code ({ cls := "NineGraves$State", name := "be", desc := "(LNineGraves$State;)V" } : Jvm.MethodName) prog_11_method_4_code (2 : Nat) (Option.none : Option Jvm.ClassFile.FieldType)) ∈ lw_all := lw_g (lw_at lw_m1 89 rfl) rfl
theorem q195 : (Jvm.Cond.methodLink "NineGraves$State" (44 : Nat) ({ cls := "NineGraves$State", name := "copy", desc := "([I[I)V" } : Jvm.MethodName)) ∈ lw_all := lw_g (lw_at lw_m1 90 rfl) rfl
theorem q196 : (Jvm.Cond.static ({ cls := "NineGraves$State", name := "copy", desc := "([I[I)V" } : Jvm.MethodName)) ∈ lw_all := lw_g (lw_at lw_m1 91 rfl) rfl
theorem q197 : (Jvm.Cond.code ({ cls := "NineGraves$State", name := "copy", desc := "([I[I)V" } : Jvm.MethodName) prog_11_method_2_code (2 : Nat) (Option.none : Option Jvm.ClassFile.FieldType)) ∈ lw_all := lw_g (lw_at lw_m1 92 rfl) rfl
theorem q198 : (Jvm.Cond.methodLink "NineGraves$State" (38 : Nat) ({ cls := "java/lang/System", name := "arraycopy", desc := "(Ljava/lang/Object;ILjava/lang/Object;II)V" } : Jvm.MethodName)) ∈ lw_all := lw_g (lw_at lw_m1 93 rfl) rfl
theorem q201 : (Jvm.Cond.methodLink "NineGraves$State" (48 : Nat) ({ cls := "NineGraves$State", name := "copy", desc := "([[I[[I)V" } : Jvm.MethodName)) ∈ lw_all := lw_g (lw_at lw_m1 96 rfl) rfl
theorem q202 : (Jvm.Cond.static ({ cls := "NineGraves$State", name := "copy", desc := "([[I[[I)V" } : Jvm.MethodName)) ∈ lw_all := lw_g (lw_at lw_m1 97 rfl) rfl
theorem q203 : (Jvm.Cond.code ({ cls := "NineGraves$State", name := "copy", desc := "([[I[[I)V" } : Jvm.MethodName) prog_11_method_3_code (3 : Nat) (Option.none : Option Jvm.ClassFile.FieldType)) ∈ lw_all := lw_g (lw_at lw_m1 98 rfl) rfl
theorem q304 : (Jvm.Cond.instanceMethod ({ cls := "NineGraves$State", name := "keeps", desc := "()V" } : Jvm.MethodName)) ∈ lw_all := lw_g (lw_at lw_m1 199 rfl) rfl
theorem q305 : (Jvm.Cond.selects "NineGraves$State" ({ cls := "NineGraves$State", name := "keeps", desc := "()V" } : Jvm.MethodName) ({ cls := "NineGraves$State", name := "keeps", desc := "()V" } : Jvm.MethodName)) ∈ lw_all := lw_g (lw_at lw_m1 200 rfl) rfl
theorem q306 : (Jvm.Cond.code ({ cls := "NineGraves$State", name := "keeps", desc := "()V" } : Jvm.MethodName) prog_11_method_5_code (2 : Nat) (Option.none : Option Jvm.ClassFile.FieldType)) ∈ lw_all := lw_g (lw_at lw_m1 201 rfl) rfl
theorem q698 : (Jvm.Cond.selects "NineGraves$State" ({ cls := "java/lang/Object", name := "getClass", desc := "()Ljava/lang/Class;" } : Jvm.MethodName) ({ cls := "java/lang/Object", name := "getClass", desc := "()Ljava/lang/Class;" } : Jvm.MethodName)) ∈ lw_all := lw_g (lw_at lw_m3 113 rfl) rfl
theorem q1683 : (Jvm.Cond.castable "NineGraves$State" "java/lang/Object") ∈ lw_tbl := lw_at lw_m7 138 rfl
theorem in_X1 : ∀ w ∈ wsX10, w ∈ lw_all := lw_in wsX10 [170, 172, 174, 176, 178, 180, 182] (by decide +kernel) (by decide +kernel)
/-! NineGravesModel -/
set_option maxRecDepth 100000
def RX2 : String := "NineGravesModel"
def TX2 : u_T := fun k => match k with
  | 0 => ("NineGravesModel", "a", "[I", true)
  | 1 => ("NineGravesModel", "image", "[I", true)
  | 2 => ("NineGravesModel", "texts", "[I", true)
  | 3 => ("NineGravesModel", "tape", "[I", true)
  | 4 => ("NineGravesModel", "taped", "I", false)
  | 5 => ("NineGravesModel", "fault", "I", false)
  | 6 => ("NineGravesModel", "faultPlace", "I", false)
  | 7 => ("NineGravesModel", "at", "I", false)
  | 8 => ("NineGravesModel", "place", "I", false)
  | 9 => ("NineGravesModel", "token", "I", false)
  | 10 => ("NineGravesModel", "number", "I", false)
  | 11 => ("NineGravesModel", "word", "J", false)
  | 12 => ("NineGravesModel", "text0", "I", false)
  | 13 => ("NineGravesModel", "clauses", "I", false)
  | 14 => ("NineGravesModel", "written", "I", false)
  | 15 => ("NineGravesModel", "came", "I", false)
  | 16 => ("NineGravesModel", "pile", "[I", true)
  | 17 => ("NineGravesModel", "piled", "I", false)
  | 18 => ("NineGravesModel", "opens", "I", false)
  | 19 => ("NineGravesModel", "isWhole", "Z", false)
  | 20 => ("NineGravesModel", "sort0", "I", false)
  | 21 => ("NineGravesModel", "once", "I", false)
  | 22 => ("NineGravesModel", "named", "[I", true)
  | 23 => ("NineGravesModel", "values", "[J", true)
  | 24 => ("NineGravesModel", "truth", "[Z", true)
  | 25 => ("NineGravesModel", "asked", "[I", true)
  | 26 => ("NineGravesModel", "barred", "[I", true)
  | 27 => ("NineGravesModel", "mays", "[I", true)
  | 28 => ("NineGravesModel", "has", "[I", true)
  | 29 => ("NineGravesModel", "askedMany", "I", false)
  | 30 => ("NineGravesModel", "costs", "[I", true)
  | 31 => ("NineGravesModel", "ways", "[J", true)
  | 32 => ("NineGravesModel", "sames", "[Z", true)
  | 33 => ("NineGravesModel", "tried", "[I", true)
  | 34 => ("NineGravesModel", "round", "[I", true)
  | _ => ("NineGravesModel", "drawn", "I", false)
def tyX2 : Nat → FieldType := fun k => match k with
  | 0 => .array .int
  | 1 => .array .int
  | 2 => .array .int
  | 3 => .array .int
  | 4 => .int
  | 5 => .int
  | 6 => .int
  | 7 => .int
  | 8 => .int
  | 9 => .int
  | 10 => .int
  | 11 => .long
  | 12 => .int
  | 13 => .int
  | 14 => .int
  | 15 => .int
  | 16 => .array .int
  | 17 => .int
  | 18 => .int
  | 19 => .boolean
  | 20 => .int
  | 21 => .int
  | 22 => .array .int
  | 23 => .array .long
  | 24 => .array .boolean
  | 25 => .array .int
  | 26 => .array .int
  | 27 => .array .int
  | 28 => .array .int
  | 29 => .int
  | 30 => .array .int
  | 31 => .array .long
  | 32 => .array .boolean
  | 33 => .array .int
  | 34 => .array .int
  | _ => .int
abbrev wsX20 : List Cond := u_ws RX2 TX2 36
set_option maxRecDepth 100000 in
theorem nmX2 : ∀ a, a < 36 → ∀ b, b < 36 → a ≠ b → (TX2 a).2.1 ≠ (TX2 b).2.1 := by decide +kernel
set_option maxRecDepth 100000 in
theorem tyX2_ok : ∀ k, k < 36 → parseFieldDescriptor (TX2 k).2.2.1 = some (tyX2 k) := by decide +kernel
abbrev cX2_init : ByteArray := prog_17_method_1_code
def yX2_init : MethodName := ⟨RX2, "<init>", "()V"⟩
abbrev cX2_copy : ByteArray := prog_17_method_2_code
def yX2_copy : MethodName := ⟨RX2, "copy", "([I[I)V"⟩
abbrev cX2_town : ByteArray := prog_17_method_10_code
def yX2_town : MethodName := ⟨RX2, "town", "(II)I"⟩
abbrev cX2_isIn : ByteArray := prog_17_method_3_code
def yX2_isIn : MethodName := ⟨RX2, "isIn", "(III)Z"⟩
abbrev cX2_bone : ByteArray := prog_17_method_11_code
def yX2_bone : MethodName := ⟨RX2, "bone", "(III)I"⟩
abbrev cX2_isTown : ByteArray := prog_17_method_5_code
def yX2_isTown : MethodName := ⟨RX2, "isTown", "(I)Z"⟩
abbrev cX2_boneAt : ByteArray := prog_17_method_7_code
def yX2_boneAt : MethodName := ⟨RX2, "boneAt", "(I)I"⟩
abbrev cX2_undo : ByteArray := prog_17_method_13_code
def yX2_undo : MethodName := ⟨RX2, "undo", "()I"⟩
abbrev cX2_prove : ByteArray := prog_17_method_14_code
def yX2_prove : MethodName := ⟨RX2, "prove", "(II)Z"⟩
abbrev cX2_isBone : ByteArray := prog_17_method_6_code
def yX2_isBone : MethodName := ⟨RX2, "isBone", "(I)Z"⟩
abbrev cX2_keep : ByteArray := prog_17_method_12_code
def yX2_keep : MethodName := ⟨RX2, "keep", "()V"⟩
abbrev cX2_lend : ByteArray := prog_17_method_15_code
def yX2_lend : MethodName := ⟨RX2, "lend", "(III)I"⟩
abbrev cX2_swap : ByteArray := prog_17_method_16_code
def yX2_swap : MethodName := ⟨RX2, "swap", "(II)Z"⟩
abbrev cX2_steal : ByteArray := prog_17_method_17_code
def yX2_steal : MethodName := ⟨RX2, "steal", "(II)Z"⟩
abbrev cX2_burn : ByteArray := prog_17_method_18_code
def yX2_burn : MethodName := ⟨RX2, "burn", "(I)I"⟩
abbrev cX2_proofsOf : ByteArray := prog_17_method_19_code
def yX2_proofsOf : MethodName := ⟨RX2, "proofsOf", "(I)I"⟩
abbrev cX2_pass : ByteArray := prog_17_method_20_code
def yX2_pass : MethodName := ⟨RX2, "pass", "(I)I"⟩
abbrev cX2_passOne : ByteArray := prog_17_method_21_code
def yX2_passOne : MethodName := ⟨RX2, "passOne", "()V"⟩
abbrev cX2_clauseOf : ByteArray := prog_17_method_66_code
def yX2_clauseOf : MethodName := ⟨RX2, "clauseOf", "(I)I"⟩
abbrev cX2_name : ByteArray := prog_17_method_67_code
def yX2_name : MethodName := ⟨RX2, "name", "(II)V"⟩
abbrev cX2_bits : ByteArray := prog_17_method_4_code
def yX2_bits : MethodName := ⟨RX2, "bits", "(I)I"⟩
abbrev cX2_work : ByteArray := prog_17_method_65_code
def yX2_work : MethodName := ⟨RX2, "work", "(I)V"⟩
abbrev cX2_two : ByteArray := prog_17_method_63_code
def yX2_two : MethodName := ⟨RX2, "two", "(IJJ)J"⟩
abbrev cX2_clip : ByteArray := prog_17_method_62_code
def yX2_clip : MethodName := ⟨RX2, "clip", "(J)J"⟩
abbrev cX2_isAsked : ByteArray := prog_17_method_64_code
def yX2_isAsked : MethodName := ⟨RX2, "isAsked", "(IJJ)Z"⟩
abbrev cX2_feed : ByteArray := prog_17_method_23_code
def yX2_feed : MethodName := ⟨RX2, "feed", "(IIIII)I"⟩
abbrev cX2_four : ByteArray := prog_17_method_22_code
def yX2_four : MethodName := ⟨RX2, "four", "(I)V"⟩
abbrev cX2_end : ByteArray := prog_17_method_24_code
def yX2_end : MethodName := ⟨RX2, "end", "(I)I"⟩
abbrev cX2_text : ByteArray := prog_17_method_57_code
def yX2_text : MethodName := ⟨RX2, "text", "()I"⟩
abbrev cX2_readText : ByteArray := prog_17_method_56_code
def yX2_readText : MethodName := ⟨RX2, "readText", "()I"⟩
abbrev cX2_nextToken : ByteArray := prog_17_method_28_code
def yX2_nextToken : MethodName := ⟨RX2, "nextToken", "()V"⟩
abbrev cX2_byteAt : ByteArray := prog_17_method_25_code
def yX2_byteAt : MethodName := ⟨RX2, "byteAt", "(I)I"⟩
abbrev cX2_isDigit : ByteArray := prog_17_method_27_code
def yX2_isDigit : MethodName := ⟨RX2, "isDigit", "(I)Z"⟩
abbrev cX2_isLetter : ByteArray := prog_17_method_26_code
def yX2_isLetter : MethodName := ⟨RX2, "isLetter", "(I)Z"⟩
abbrev cX2_clause : ByteArray := prog_17_method_55_code
def yX2_clause : MethodName := ⟨RX2, "clause", "()I"⟩
abbrev cX2_sortOf : ByteArray := prog_17_method_48_code
def yX2_sortOf : MethodName := ⟨RX2, "sortOf", "()I"⟩
abbrev cX2_w4 : ByteArray := prog_17_method_31_code
def yX2_w4 : MethodName := ⟨RX2, "w4", "(IIII)J"⟩
abbrev cX2_w3 : ByteArray := prog_17_method_29_code
def yX2_w3 : MethodName := ⟨RX2, "w3", "(III)J"⟩
abbrev cX2_isWord : ByteArray := prog_17_method_33_code
def yX2_isWord : MethodName := ⟨RX2, "isWord", "(J)Z"⟩
abbrev cX2_w6 : ByteArray := prog_17_method_32_code
def yX2_w6 : MethodName := ⟨RX2, "w6", "(IIIIII)J"⟩
abbrev cX2_w5 : ByteArray := prog_17_method_30_code
def yX2_w5 : MethodName := ⟨RX2, "w5", "(IIIII)J"⟩
abbrev cX2_done : ByteArray := prog_17_method_54_code
def yX2_done : MethodName := ⟨RX2, "done", "(II)I"⟩
abbrev cX2_kind : ByteArray := prog_17_method_52_code
def yX2_kind : MethodName := ⟨RX2, "kind", "(I)I"⟩
abbrev cX2_figure : ByteArray := prog_17_method_49_code
def yX2_figure : MethodName := ⟨RX2, "figure", "(III)I"⟩
abbrev cX2_step : ByteArray := prog_17_method_50_code
def yX2_step : MethodName := ⟨RX2, "step", "(Z)I"⟩
abbrev cX2_lent : ByteArray := prog_17_method_53_code
def yX2_lent : MethodName := ⟨RX2, "lent", "(I)I"⟩
abbrev cX2_isTo : ByteArray := prog_17_method_51_code
def yX2_isTo : MethodName := ⟨RX2, "isTo", "()Z"⟩
abbrev cX2_summed : ByteArray := prog_17_method_44_code
def yX2_summed : MethodName := ⟨RX2, "summed", "()I"⟩
abbrev cX2_goesOn : ByteArray := prog_17_method_42_code
def yX2_goesOn : MethodName := ⟨RX2, "goesOn", "()Z"⟩
abbrev cX2_hasParen : ByteArray := prog_17_method_41_code
def yX2_hasParen : MethodName := ⟨RX2, "hasParen", "()Z"⟩
abbrev cX2_behindOne : ByteArray := prog_17_method_43_code
def yX2_behindOne : MethodName := ⟨RX2, "behindOne", "()I"⟩
abbrev cX2_settle : ByteArray := prog_17_method_37_code
def yX2_settle : MethodName := ⟨RX2, "settle", "(I)V"⟩
abbrev cX2_emit : ByteArray := prog_17_method_34_code
def yX2_emit : MethodName := ⟨RX2, "emit", "(II)V"⟩
abbrev cX2_push : ByteArray := prog_17_method_35_code
def yX2_push : MethodName := ⟨RX2, "push", "(I)V"⟩
abbrev cX2_whole : ByteArray := prog_17_method_36_code
def yX2_whole : MethodName := ⟨RX2, "whole", "()V"⟩
abbrev cX2_beginOne : ByteArray := prog_17_method_40_code
def yX2_beginOne : MethodName := ⟨RX2, "beginOne", "()I"⟩
abbrev cX2_nameOf : ByteArray := prog_17_method_38_code
def yX2_nameOf : MethodName := ⟨RX2, "nameOf", "()I"⟩
abbrev cX2_isBarred : ByteArray := prog_17_method_39_code
def yX2_isBarred : MethodName := ⟨RX2, "isBarred", "(I)Z"⟩
abbrev cX2_either : ByteArray := prog_17_method_47_code
def yX2_either : MethodName := ⟨RX2, "either", "()I"⟩
abbrev cX2_asks : ByteArray := prog_17_method_46_code
def yX2_asks : MethodName := ⟨RX2, "asks", "()I"⟩
abbrev cX2_compareOf : ByteArray := prog_17_method_45_code
def yX2_compareOf : MethodName := ⟨RX2, "compareOf", "()I"⟩
abbrev cX2_fault : ByteArray := prog_17_method_58_code
def yX2_fault : MethodName := ⟨RX2, "fault", "(I)I"⟩
abbrev cX2_by : ByteArray := prog_17_method_59_code
def yX2_by : MethodName := ⟨RX2, "by", "(I)Z"⟩
abbrev cX2_played : ByteArray := prog_17_method_61_code
def yX2_played : MethodName := ⟨RX2, "played", "(I)I"⟩
abbrev cX2_isPlayed : ByteArray := prog_17_method_60_code
def yX2_isPlayed : MethodName := ⟨RX2, "isPlayed", "(I)Z"⟩
abbrev cX2_of : ByteArray := prog_17_method_71_code
def yX2_of : MethodName := ⟨RX2, "of", "(II)I"⟩
abbrev cX2_isHoly : ByteArray := prog_17_method_68_code
def yX2_isHoly : MethodName := ⟨RX2, "isHoly", "(I)Z"⟩
abbrev cX2_saints : ByteArray := prog_17_method_77_code
def yX2_saints : MethodName := ⟨RX2, "saints", "(II)I"⟩
abbrev cX2_findAsked : ByteArray := prog_17_method_72_code
def yX2_findAsked : MethodName := ⟨RX2, "findAsked", "(I)V"⟩
abbrev cX2_findBarred : ByteArray := prog_17_method_73_code
def yX2_findBarred : MethodName := ⟨RX2, "findBarred", "()V"⟩
abbrev cX2_manyOf : ByteArray := prog_17_method_70_code
def yX2_manyOf : MethodName := ⟨RX2, "manyOf", "(I)I"⟩
abbrev cX2_isUnlike : ByteArray := prog_17_method_69_code
def yX2_isUnlike : MethodName := ⟨RX2, "isUnlike", "(II)Z"⟩
abbrev cX2_share : ByteArray := prog_17_method_76_code
def yX2_share : MethodName := ⟨RX2, "share", "(I)Z"⟩
abbrev cX2_used : ByteArray := prog_17_method_75_code
def yX2_used : MethodName := ⟨RX2, "used", "(I)I"⟩
abbrev cX2_canHave : ByteArray := prog_17_method_74_code
def yX2_canHave : MethodName := ⟨RX2, "canHave", "(II)Z"⟩
abbrev cX2_rules : ByteArray := prog_17_method_78_code
def yX2_rules : MethodName := ⟨RX2, "rules", "(II)Z"⟩
abbrev cX2_seen : ByteArray := prog_17_method_79_code
def yX2_seen : MethodName := ⟨RX2, "seen", "(IIII)I"⟩
abbrev cX2_forget : ByteArray := prog_17_method_80_code
def yX2_forget : MethodName := ⟨RX2, "forget", "()I"⟩
abbrev cX2_same : ByteArray := prog_17_method_81_code
def yX2_same : MethodName := ⟨RX2, "same", "(II)Z"⟩
abbrev cX2_miles : ByteArray := prog_17_method_9_code
def yX2_miles : MethodName := ⟨RX2, "miles", "(II)I"⟩
abbrev cX2_apart : ByteArray := prog_17_method_8_code
def yX2_apart : MethodName := ⟨RX2, "apart", "(II)I"⟩
abbrev cX2_best : ByteArray := prog_17_method_87_code
def yX2_best : MethodName := ⟨RX2, "best", "(I)I"⟩
abbrev cX2_reckon : ByteArray := prog_17_method_85_code
def yX2_reckon : MethodName := ⟨RX2, "reckon", "()V"⟩
abbrev cX2_reckonOne : ByteArray := prog_17_method_86_code
def yX2_reckonOne : MethodName := ⟨RX2, "reckonOne", "(II)V"⟩
abbrev cX2_mayBe : ByteArray := prog_17_method_83_code
def yX2_mayBe : MethodName := ⟨RX2, "mayBe", "(III)Z"⟩
abbrev cX2_behind : ByteArray := prog_17_method_84_code
def yX2_behind : MethodName := ⟨RX2, "behind", "(III)I"⟩
abbrev cX2_costOf : ByteArray := prog_17_method_82_code
def yX2_costOf : MethodName := ⟨RX2, "costOf", "(II)I"⟩
abbrev cX2_histories : ByteArray := prog_17_method_88_code
def yX2_histories : MethodName := ⟨RX2, "histories", "()J"⟩
abbrev cX2_led : ByteArray := prog_17_method_89_code
def yX2_led : MethodName := ⟨RX2, "led", "(I)I"⟩
abbrev cX2_chance : ByteArray := prog_17_method_93_code
def yX2_chance : MethodName := ⟨RX2, "chance", "(IIII)J"⟩
abbrev cX2_choices : ByteArray := prog_17_method_92_code
def yX2_choices : MethodName := ⟨RX2, "choices", "(II)J"⟩
abbrev cX2_power : ByteArray := prog_17_method_90_code
def yX2_power : MethodName := ⟨RX2, "power", "(II)J"⟩
abbrev cX2_common : ByteArray := prog_17_method_91_code
def yX2_common : MethodName := ⟨RX2, "common", "(JJ)J"⟩
abbrev cX2_round : ByteArray := prog_17_method_97_code
def yX2_round : MethodName := ⟨RX2, "round", "(II)I"⟩
abbrev cX2_milesOf : ByteArray := prog_17_method_94_code
def yX2_milesOf : MethodName := ⟨RX2, "milesOf", "(I)I"⟩
abbrev cX2_nextOrder : ByteArray := prog_17_method_95_code
def yX2_nextOrder : MethodName := ⟨RX2, "nextOrder", "(I)Z"⟩
abbrev cX2_exchange : ByteArray := prog_17_method_96_code
def yX2_exchange : MethodName := ⟨RX2, "exchange", "(II)V"⟩
abbrev cX2_pilgrims : ByteArray := prog_17_method_100_code
def yX2_pilgrims : MethodName := ⟨RX2, "pilgrims", "(IIII)I"⟩
abbrev cX2_draw : ByteArray := prog_17_method_98_code
def yX2_draw : MethodName := ⟨RX2, "draw", "(I)I"⟩
abbrev cX2_isHolyTown : ByteArray := prog_17_method_99_code
def yX2_isHolyTown : MethodName := ⟨RX2, "isHolyTown", "(I)Z"⟩
abbrev cX2_image : ByteArray := prog_17_method_101_code
def yX2_image : MethodName := ⟨RX2, "image", "()I"⟩
abbrev cX2_back : ByteArray := prog_17_method_102_code
def yX2_back : MethodName := ⟨RX2, "back", "()I"⟩
abbrev cX2_about : ByteArray := prog_17_method_104_code
def yX2_about : MethodName := ⟨RX2, "about", "(I)I"⟩
abbrev cX2_bonesAt : ByteArray := prog_17_method_103_code
def yX2_bonesAt : MethodName := ⟨RX2, "bonesAt", "(I)I"⟩
theorem q109 : (Jvm.Cond.initialized "NineGravesModel") ∈ lw_all := lw_g (lw_at lw_m1 4 rfl) rfl
theorem q702 : (Jvm.Cond.selects "NineGravesModel" ({ cls := "java/lang/Object", name := "getClass", desc := "()Ljava/lang/Class;" } : Jvm.MethodName) ({ cls := "java/lang/Object", name := "getClass", desc := "()Ljava/lang/Class;" } : Jvm.MethodName)) ∈ lw_all := lw_g (lw_at lw_m3 117 rfl) rfl
theorem q1154 : (Jvm.Cond.instantiable "NineGravesModel" (36 : Nat)) ∈ lw_all := lw_g (lw_at lw_m5 89 rfl) rfl
theorem q1156 : (Jvm.Cond.instanceMethod ({ cls := "NineGravesModel", name := "<init>", desc := "()V" } : Jvm.MethodName)) ∈ lw_all := lw_g (lw_at lw_m5 91 rfl) rfl
theorem q1157 : (Jvm.Cond.code ({ cls := "NineGravesModel", name := "<init>", desc := "()V" } : Jvm.MethodName) prog_17_method_1_code (1 : Nat) (Option.none : Option Jvm.ClassFile.FieldType)) ∈ lw_all := lw_g (lw_at lw_m5 92 rfl) rfl
theorem q1158 : (Jvm.Cond.methodLink "NineGravesModel" (1 : Nat) ({ cls := "java/lang/Object", name := "<init>", desc := "()V" } : Jvm.MethodName)) ∈ lw_all := lw_g (lw_at lw_m5 93 rfl) rfl
theorem q1159 : (Jvm.Cond.constant "NineGravesModel" (55 : Nat) (53248 : Int32)) ∈ lw_all := lw_g (lw_at lw_m5 94 rfl) rfl
theorem q1160 : (Jvm.Cond.methodLink "NineGravesModel" (71 : Nat) ({ cls := "NineGravesModel", name := "copy", desc := "([I[I)V" } : Jvm.MethodName)) ∈ lw_all := lw_g (lw_at lw_m5 95 rfl) rfl
theorem q1161 : (Jvm.Cond.static ({ cls := "NineGravesModel", name := "copy", desc := "([I[I)V" } : Jvm.MethodName)) ∈ lw_all := lw_g (lw_at lw_m5 96 rfl) rfl
theorem q1162 : (Jvm.Cond.code ({ cls := "NineGravesModel", name := "copy", desc := "([I[I)V" } : Jvm.MethodName) prog_17_method_2_code (3 : Nat) (Option.none : Option Jvm.ClassFile.FieldType)) ∈ lw_all := lw_g (lw_at lw_m5 97 rfl) rfl
theorem q1163 : (Jvm.Cond.fieldLink "NineGravesModel" (7 : Nat) "NineGravesModel" "a" "[I") ∈ lw_all := lw_g (lw_at lw_m5 98 rfl) rfl
theorem q1164 : (Jvm.Cond.fieldLink "NineGravesModel" (13 : Nat) "NineGravesModel" "image" "[I") ∈ lw_all := lw_g (lw_at lw_m5 99 rfl) rfl
theorem q1165 : (Jvm.Cond.fieldLink "NineGravesModel" (16 : Nat) "NineGravesModel" "texts" "[I") ∈ lw_all := lw_g (lw_at lw_m5 100 rfl) rfl
theorem q1166 : (Jvm.Cond.fieldLink "NineGravesModel" (19 : Nat) "NineGravesModel" "tape" "[I") ∈ lw_all := lw_g (lw_at lw_m5 101 rfl) rfl
theorem q1167 : (Jvm.Cond.fieldLink "NineGravesModel" (114 : Nat) "NineGravesModel" "taped" "I") ∈ lw_all := lw_g (lw_at lw_m5 102 rfl) rfl
theorem q1168 : (Jvm.Cond.fieldLink "NineGravesModel" (22 : Nat) "NineGravesModel" "fault" "I") ∈ lw_all := lw_g (lw_at lw_m5 103 rfl) rfl
theorem q1169 : (Jvm.Cond.fieldLink "NineGravesModel" (26 : Nat) "NineGravesModel" "faultPlace" "I") ∈ lw_all := lw_g (lw_at lw_m5 104 rfl) rfl
theorem q1170 : (Jvm.Cond.fieldLink "NineGravesModel" (120 : Nat) "NineGravesModel" "at" "I") ∈ lw_all := lw_g (lw_at lw_m5 105 rfl) rfl
theorem q1171 : (Jvm.Cond.fieldLink "NineGravesModel" (126 : Nat) "NineGravesModel" "place" "I") ∈ lw_all := lw_g (lw_at lw_m5 106 rfl) rfl
theorem q1172 : (Jvm.Cond.fieldLink "NineGravesModel" (129 : Nat) "NineGravesModel" "token" "I") ∈ lw_all := lw_g (lw_at lw_m5 107 rfl) rfl
theorem q1173 : (Jvm.Cond.fieldLink "NineGravesModel" (135 : Nat) "NineGravesModel" "number" "I") ∈ lw_all := lw_g (lw_at lw_m5 108 rfl) rfl
theorem q1174 : (Jvm.Cond.fieldLink "NineGravesModel" (142 : Nat) "NineGravesModel" "word" "J") ∈ lw_all := lw_g (lw_at lw_m5 109 rfl) rfl
theorem q1175 : (Jvm.Cond.fieldLink "NineGravesModel" (154 : Nat) "NineGravesModel" "text0" "I") ∈ lw_all := lw_g (lw_at lw_m5 110 rfl) rfl
theorem q1176 : (Jvm.Cond.fieldLink "NineGravesModel" (157 : Nat) "NineGravesModel" "written" "I") ∈ lw_all := lw_g (lw_at lw_m5 111 rfl) rfl
theorem q1177 : (Jvm.Cond.fieldLink "NineGravesModel" (29 : Nat) "NineGravesModel" "pile" "[I") ∈ lw_all := lw_g (lw_at lw_m5 112 rfl) rfl
theorem q1178 : (Jvm.Cond.fieldLink "NineGravesModel" (160 : Nat) "NineGravesModel" "piled" "I") ∈ lw_all := lw_g (lw_at lw_m5 113 rfl) rfl
theorem q1179 : (Jvm.Cond.fieldLink "NineGravesModel" (167 : Nat) "NineGravesModel" "opens" "I") ∈ lw_all := lw_g (lw_at lw_m5 114 rfl) rfl
theorem q1180 : (Jvm.Cond.fieldLink "NineGravesModel" (163 : Nat) "NineGravesModel" "isWhole" "Z") ∈ lw_all := lw_g (lw_at lw_m5 115 rfl) rfl
theorem q1181 : (Jvm.Cond.fieldLink "NineGravesModel" (181 : Nat) "NineGravesModel" "sort0" "I") ∈ lw_all := lw_g (lw_at lw_m5 116 rfl) rfl
theorem q1182 : (Jvm.Cond.fieldLink "NineGravesModel" (253 : Nat) "NineGravesModel" "once" "I") ∈ lw_all := lw_g (lw_at lw_m5 117 rfl) rfl
theorem q1183 : (Jvm.Cond.fieldLink "NineGravesModel" (32 : Nat) "NineGravesModel" "named" "[I") ∈ lw_all := lw_g (lw_at lw_m5 118 rfl) rfl
theorem q1184 : (Jvm.Cond.fieldLink "NineGravesModel" (35 : Nat) "NineGravesModel" "values" "[J") ∈ lw_all := lw_g (lw_at lw_m5 119 rfl) rfl
theorem q1185 : (Jvm.Cond.fieldLink "NineGravesModel" (39 : Nat) "NineGravesModel" "truth" "[Z") ∈ lw_all := lw_g (lw_at lw_m5 120 rfl) rfl
theorem q1186 : (Jvm.Cond.fieldLink "NineGravesModel" (43 : Nat) "NineGravesModel" "asked" "[I") ∈ lw_all := lw_g (lw_at lw_m5 121 rfl) rfl
theorem q1187 : (Jvm.Cond.fieldLink "NineGravesModel" (46 : Nat) "NineGravesModel" "barred" "[I") ∈ lw_all := lw_g (lw_at lw_m5 122 rfl) rfl
theorem q1188 : (Jvm.Cond.fieldLink "NineGravesModel" (49 : Nat) "NineGravesModel" "mays" "[I") ∈ lw_all := lw_g (lw_at lw_m5 123 rfl) rfl
theorem q1189 : (Jvm.Cond.fieldLink "NineGravesModel" (52 : Nat) "NineGravesModel" "has" "[I") ∈ lw_all := lw_g (lw_at lw_m5 124 rfl) rfl
theorem q1190 : (Jvm.Cond.fieldLink "NineGravesModel" (309 : Nat) "NineGravesModel" "askedMany" "I") ∈ lw_all := lw_g (lw_at lw_m5 125 rfl) rfl
theorem q1191 : (Jvm.Cond.fieldLink "NineGravesModel" (56 : Nat) "NineGravesModel" "costs" "[I") ∈ lw_all := lw_g (lw_at lw_m5 126 rfl) rfl
theorem q1192 : (Jvm.Cond.fieldLink "NineGravesModel" (59 : Nat) "NineGravesModel" "ways" "[J") ∈ lw_all := lw_g (lw_at lw_m5 127 rfl) rfl
theorem q1193 : (Jvm.Cond.fieldLink "NineGravesModel" (62 : Nat) "NineGravesModel" "sames" "[Z") ∈ lw_all := lw_g (lw_at lw_m5 128 rfl) rfl
theorem q1194 : (Jvm.Cond.fieldLink "NineGravesModel" (65 : Nat) "NineGravesModel" "tried" "[I") ∈ lw_all := lw_g (lw_at lw_m5 129 rfl) rfl
theorem q1195 : (Jvm.Cond.fieldLink "NineGravesModel" (68 : Nat) "NineGravesModel" "round" "[I") ∈ lw_all := lw_g (lw_at lw_m5 130 rfl) rfl
theorem q1196 : (Jvm.Cond.fieldLink "NineGravesModel" (377 : Nat) "NineGravesModel" "drawn" "I") ∈ lw_all := lw_g (lw_at lw_m5 131 rfl) rfl
theorem q1197 : (Jvm.Cond.laysFinal "NineGravesModel" "NineGravesModel" "a" "[I") ∈ lw_all := lw_g (lw_at lw_m5 132 rfl) rfl
theorem q1198 : (Jvm.Cond.soleField "NineGravesModel" "a") ∈ lw_all := lw_g (lw_at lw_m5 133 rfl) rfl
theorem q1199 : (Jvm.Cond.laysFinal "NineGravesModel" "NineGravesModel" "image" "[I") ∈ lw_all := lw_g (lw_at lw_m5 134 rfl) rfl
theorem q1200 : (Jvm.Cond.soleField "NineGravesModel" "image") ∈ lw_all := lw_g (lw_at lw_m5 135 rfl) rfl
theorem q1201 : (Jvm.Cond.laysFinal "NineGravesModel" "NineGravesModel" "texts" "[I") ∈ lw_all := lw_g (lw_at lw_m5 136 rfl) rfl
theorem q1202 : (Jvm.Cond.soleField "NineGravesModel" "texts") ∈ lw_all := lw_g (lw_at lw_m5 137 rfl) rfl
theorem q1203 : (Jvm.Cond.laysFinal "NineGravesModel" "NineGravesModel" "tape" "[I") ∈ lw_all := lw_g (lw_at lw_m5 138 rfl) rfl
theorem q1204 : (Jvm.Cond.soleField "NineGravesModel" "tape") ∈ lw_all := lw_g (lw_at lw_m5 139 rfl) rfl
theorem q1205 : (Jvm.Cond.lays "NineGravesModel" "NineGravesModel" "taped" "I") ∈ lw_all := lw_g (lw_at lw_m5 140 rfl) rfl
theorem q1206 : (Jvm.Cond.soleField "NineGravesModel" "taped") ∈ lw_all := lw_g (lw_at lw_m5 141 rfl) rfl
theorem q1207 : (Jvm.Cond.lays "NineGravesModel" "NineGravesModel" "fault" "I") ∈ lw_all := lw_g (lw_at lw_m5 142 rfl) rfl
theorem q1208 : (Jvm.Cond.soleField "NineGravesModel" "fault") ∈ lw_all := lw_g (lw_at lw_m5 143 rfl) rfl
theorem q1209 : (Jvm.Cond.lays "NineGravesModel" "NineGravesModel" "faultPlace" "I") ∈ lw_all := lw_g (lw_at lw_m5 144 rfl) rfl
theorem q1210 : (Jvm.Cond.soleField "NineGravesModel" "faultPlace") ∈ lw_all := lw_g (lw_at lw_m5 145 rfl) rfl
theorem q1211 : (Jvm.Cond.lays "NineGravesModel" "NineGravesModel" "at" "I") ∈ lw_all := lw_g (lw_at lw_m5 146 rfl) rfl
theorem q1212 : (Jvm.Cond.soleField "NineGravesModel" "at") ∈ lw_all := lw_g (lw_at lw_m5 147 rfl) rfl
theorem q1213 : (Jvm.Cond.lays "NineGravesModel" "NineGravesModel" "place" "I") ∈ lw_all := lw_g (lw_at lw_m5 148 rfl) rfl
theorem q1214 : (Jvm.Cond.soleField "NineGravesModel" "place") ∈ lw_all := lw_g (lw_at lw_m5 149 rfl) rfl
theorem q1215 : (Jvm.Cond.lays "NineGravesModel" "NineGravesModel" "token" "I") ∈ lw_all := lw_g (lw_at lw_m5 150 rfl) rfl
theorem q1216 : (Jvm.Cond.soleField "NineGravesModel" "token") ∈ lw_all := lw_g (lw_at lw_m5 151 rfl) rfl
theorem q1217 : (Jvm.Cond.lays "NineGravesModel" "NineGravesModel" "number" "I") ∈ lw_all := lw_g (lw_at lw_m5 152 rfl) rfl
theorem q1218 : (Jvm.Cond.soleField "NineGravesModel" "number") ∈ lw_all := lw_g (lw_at lw_m5 153 rfl) rfl
theorem q1219 : (Jvm.Cond.lays "NineGravesModel" "NineGravesModel" "word" "J") ∈ lw_all := lw_g (lw_at lw_m5 154 rfl) rfl
theorem q1220 : (Jvm.Cond.soleField "NineGravesModel" "word") ∈ lw_all := lw_g (lw_at lw_m5 155 rfl) rfl
theorem q1221 : (Jvm.Cond.lays "NineGravesModel" "NineGravesModel" "text0" "I") ∈ lw_all := lw_g (lw_at lw_m5 156 rfl) rfl
theorem q1222 : (Jvm.Cond.soleField "NineGravesModel" "text0") ∈ lw_all := lw_g (lw_at lw_m5 157 rfl) rfl
theorem q1223 : (Jvm.Cond.lays "NineGravesModel" "NineGravesModel" "clauses" "I") ∈ lw_all := lw_g (lw_at lw_m5 158 rfl) rfl
theorem q1224 : (Jvm.Cond.soleField "NineGravesModel" "clauses") ∈ lw_all := lw_g (lw_at lw_m5 159 rfl) rfl
theorem q1225 : (Jvm.Cond.lays "NineGravesModel" "NineGravesModel" "written" "I") ∈ lw_all := lw_g (lw_at lw_m5 160 rfl) rfl
theorem q1226 : (Jvm.Cond.soleField "NineGravesModel" "written") ∈ lw_all := lw_g (lw_at lw_m5 161 rfl) rfl
theorem q1227 : (Jvm.Cond.lays "NineGravesModel" "NineGravesModel" "came" "I") ∈ lw_all := lw_g (lw_at lw_m5 162 rfl) rfl
theorem q1228 : (Jvm.Cond.soleField "NineGravesModel" "came") ∈ lw_all := lw_g (lw_at lw_m5 163 rfl) rfl
theorem q1229 : (Jvm.Cond.laysFinal "NineGravesModel" "NineGravesModel" "pile" "[I") ∈ lw_all := lw_g (lw_at lw_m5 164 rfl) rfl
theorem q1230 : (Jvm.Cond.soleField "NineGravesModel" "pile") ∈ lw_all := lw_g (lw_at lw_m5 165 rfl) rfl
theorem q1231 : (Jvm.Cond.lays "NineGravesModel" "NineGravesModel" "piled" "I") ∈ lw_all := lw_g (lw_at lw_m5 166 rfl) rfl
theorem q1232 : (Jvm.Cond.soleField "NineGravesModel" "piled") ∈ lw_all := lw_g (lw_at lw_m5 167 rfl) rfl
theorem q1233 : (Jvm.Cond.lays "NineGravesModel" "NineGravesModel" "opens" "I") ∈ lw_all := lw_g (lw_at lw_m5 168 rfl) rfl
theorem q1234 : (Jvm.Cond.soleField "NineGravesModel" "opens") ∈ lw_all := lw_g (lw_at lw_m5 169 rfl) rfl
theorem q1235 : (Jvm.Cond.lays "NineGravesModel" "NineGravesModel" "isWhole" "Z") ∈ lw_all := lw_g (lw_at lw_m5 170 rfl) rfl
theorem q1236 : (Jvm.Cond.soleField "NineGravesModel" "isWhole") ∈ lw_all := lw_g (lw_at lw_m5 171 rfl) rfl
theorem q1237 : (Jvm.Cond.lays "NineGravesModel" "NineGravesModel" "sort0" "I") ∈ lw_all := lw_g (lw_at lw_m5 172 rfl) rfl
theorem q1238 : (Jvm.Cond.soleField "NineGravesModel" "sort0") ∈ lw_all := lw_g (lw_at lw_m5 173 rfl) rfl
theorem q1239 : (Jvm.Cond.lays "NineGravesModel" "NineGravesModel" "once" "I") ∈ lw_all := lw_g (lw_at lw_m5 174 rfl) rfl
theorem q1240 : (Jvm.Cond.soleField "NineGravesModel" "once") ∈ lw_all := lw_g (lw_at lw_m5 175 rfl) rfl
theorem q1241 : (Jvm.Cond.laysFinal "NineGravesModel" "NineGravesModel" "named" "[I") ∈ lw_all := lw_g (lw_at lw_m5 176 rfl) rfl
theorem q1242 : (Jvm.Cond.soleField "NineGravesModel" "named") ∈ lw_all := lw_g (lw_at lw_m5 177 rfl) rfl
theorem q1243 : (Jvm.Cond.laysFinal "NineGravesModel" "NineGravesModel" "values" "[J") ∈ lw_all := lw_g (lw_at lw_m5 178 rfl) rfl
theorem q1244 : (Jvm.Cond.soleField "NineGravesModel" "values") ∈ lw_all := lw_g (lw_at lw_m5 179 rfl) rfl
theorem q1245 : (Jvm.Cond.laysFinal "NineGravesModel" "NineGravesModel" "truth" "[Z") ∈ lw_all := lw_g (lw_at lw_m5 180 rfl) rfl
theorem q1246 : (Jvm.Cond.soleField "NineGravesModel" "truth") ∈ lw_all := lw_g (lw_at lw_m5 181 rfl) rfl
theorem q1247 : (Jvm.Cond.laysFinal "NineGravesModel" "NineGravesModel" "asked" "[I") ∈ lw_all := lw_g (lw_at lw_m5 182 rfl) rfl
theorem q1248 : (Jvm.Cond.soleField "NineGravesModel" "asked") ∈ lw_all := lw_g (lw_at lw_m5 183 rfl) rfl
theorem q1249 : (Jvm.Cond.laysFinal "NineGravesModel" "NineGravesModel" "barred" "[I") ∈ lw_all := lw_g (lw_at lw_m5 184 rfl) rfl
theorem q1250 : (Jvm.Cond.soleField "NineGravesModel" "barred") ∈ lw_all := lw_g (lw_at lw_m5 185 rfl) rfl
theorem q1251 : (Jvm.Cond.laysFinal "NineGravesModel" "NineGravesModel" "mays" "[I") ∈ lw_all := lw_g (lw_at lw_m5 186 rfl) rfl
theorem q1252 : (Jvm.Cond.soleField "NineGravesModel" "mays") ∈ lw_all := lw_g (lw_at lw_m5 187 rfl) rfl
theorem q1253 : (Jvm.Cond.laysFinal "NineGravesModel" "NineGravesModel" "has" "[I") ∈ lw_all := lw_g (lw_at lw_m5 188 rfl) rfl
theorem q1254 : (Jvm.Cond.soleField "NineGravesModel" "has") ∈ lw_all := lw_g (lw_at lw_m5 189 rfl) rfl
theorem q1255 : (Jvm.Cond.lays "NineGravesModel" "NineGravesModel" "askedMany" "I") ∈ lw_all := lw_g (lw_at lw_m5 190 rfl) rfl
theorem q1256 : (Jvm.Cond.soleField "NineGravesModel" "askedMany") ∈ lw_all := lw_g (lw_at lw_m5 191 rfl) rfl
theorem q1257 : (Jvm.Cond.laysFinal "NineGravesModel" "NineGravesModel" "costs" "[I") ∈ lw_all := lw_g (lw_at lw_m5 192 rfl) rfl
theorem q1258 : (Jvm.Cond.soleField "NineGravesModel" "costs") ∈ lw_all := lw_g (lw_at lw_m5 193 rfl) rfl
theorem q1259 : (Jvm.Cond.laysFinal "NineGravesModel" "NineGravesModel" "ways" "[J") ∈ lw_all := lw_g (lw_at lw_m5 194 rfl) rfl
theorem q1260 : (Jvm.Cond.soleField "NineGravesModel" "ways") ∈ lw_all := lw_g (lw_at lw_m5 195 rfl) rfl
theorem q1261 : (Jvm.Cond.laysFinal "NineGravesModel" "NineGravesModel" "sames" "[Z") ∈ lw_all := lw_g (lw_at lw_m5 196 rfl) rfl
theorem q1262 : (Jvm.Cond.soleField "NineGravesModel" "sames") ∈ lw_all := lw_g (lw_at lw_m5 197 rfl) rfl
theorem q1263 : (Jvm.Cond.laysFinal "NineGravesModel" "NineGravesModel" "tried" "[I") ∈ lw_all := lw_g (lw_at lw_m5 198 rfl) rfl
theorem q1264 : (Jvm.Cond.soleField "NineGravesModel" "tried") ∈ lw_all := lw_g (lw_at lw_m5 199 rfl) rfl
theorem q1265 : (Jvm.Cond.laysFinal "NineGravesModel" "NineGravesModel" "round" "[I") ∈ lw_all := lw_g (lw_at lw_m5 200 rfl) rfl
theorem q1266 : (Jvm.Cond.soleField "NineGravesModel" "round") ∈ lw_all := lw_g (lw_at lw_m5 201 rfl) rfl
theorem q1267 : (Jvm.Cond.lays "NineGravesModel" "NineGravesModel" "drawn" "I") ∈ lw_all := lw_g (lw_at lw_m5 202 rfl) rfl
theorem q1268 : (Jvm.Cond.soleField "NineGravesModel" "drawn") ∈ lw_all := lw_g (lw_at lw_m5 203 rfl) rfl
theorem q1269 : (Jvm.Cond.superclass "NineGravesModel" "java/lang/Object") ∈ lw_all := lw_g (lw_at lw_m5 204 rfl) rfl
theorem q1271 : (Jvm.Cond.instanceMethod ({ cls := "NineGravesModel", name := "town", desc := "(II)I" } : Jvm.MethodName)) ∈ lw_all := lw_g (lw_at lw_m5 206 rfl) rfl
theorem q1272 : (Jvm.Cond.selects "NineGravesModel" ({ cls := "NineGravesModel", name := "town", desc := "(II)I" } : Jvm.MethodName) ({ cls := "NineGravesModel", name := "town", desc := "(II)I" } : Jvm.MethodName)) ∈ lw_all := lw_g (lw_at lw_m5 207 rfl) rfl
theorem q1273 : (Jvm.Cond.code ({ cls := "NineGravesModel", name := "town", desc := "(II)I" } : Jvm.MethodName) prog_17_method_10_code (3 : Nat) (Option.some Jvm.ClassFile.FieldType.int)) ∈ lw_all := lw_g (lw_at lw_m5 208 rfl) rfl
theorem q1274 : (Jvm.Cond.methodLink "NineGravesModel" (75 : Nat) ({ cls := "NineGravesModel", name := "isIn", desc := "(III)Z" } : Jvm.MethodName)) ∈ lw_all := lw_g (lw_at lw_m5 209 rfl) rfl
theorem q1275 : (Jvm.Cond.static ({ cls := "NineGravesModel", name := "isIn", desc := "(III)Z" } : Jvm.MethodName)) ∈ lw_all := lw_g (lw_at lw_m5 210 rfl) rfl
theorem q1276 : (Jvm.Cond.code ({ cls := "NineGravesModel", name := "isIn", desc := "(III)Z" } : Jvm.MethodName) prog_17_method_3_code (3 : Nat) (Option.some Jvm.ClassFile.FieldType.boolean)) ∈ lw_all := lw_g (lw_at lw_m5 211 rfl) rfl
theorem q1278 : (Jvm.Cond.instanceMethod ({ cls := "NineGravesModel", name := "bone", desc := "(III)I" } : Jvm.MethodName)) ∈ lw_all := lw_g (lw_at lw_m5 213 rfl) rfl
theorem q1279 : (Jvm.Cond.selects "NineGravesModel" ({ cls := "NineGravesModel", name := "bone", desc := "(III)I" } : Jvm.MethodName) ({ cls := "NineGravesModel", name := "bone", desc := "(III)I" } : Jvm.MethodName)) ∈ lw_all := lw_g (lw_at lw_m5 214 rfl) rfl
theorem q1280 : (Jvm.Cond.code ({ cls := "NineGravesModel", name := "bone", desc := "(III)I" } : Jvm.MethodName) prog_17_method_11_code (5 : Nat) (Option.some Jvm.ClassFile.FieldType.int)) ∈ lw_all := lw_g (lw_at lw_m5 215 rfl) rfl
theorem q1281 : (Jvm.Cond.methodLink "NineGravesModel" (83 : Nat) ({ cls := "NineGravesModel", name := "isTown", desc := "(I)Z" } : Jvm.MethodName)) ∈ lw_all := lw_g (lw_at lw_m5 216 rfl) rfl
theorem q1282 : (Jvm.Cond.privateMethod ({ cls := "NineGravesModel", name := "isTown", desc := "(I)Z" } : Jvm.MethodName)) ∈ lw_tbl := lw_at lw_m5 217 rfl
theorem q1283 : (Jvm.Cond.instanceMethod ({ cls := "NineGravesModel", name := "isTown", desc := "(I)Z" } : Jvm.MethodName)) ∈ lw_all := lw_g (lw_at lw_m5 218 rfl) rfl
theorem q1284 : (Jvm.Cond.code ({ cls := "NineGravesModel", name := "isTown", desc := "(I)Z" } : Jvm.MethodName) prog_17_method_5_code (2 : Nat) (Option.some Jvm.ClassFile.FieldType.boolean)) ∈ lw_all := lw_g (lw_at lw_m5 219 rfl) rfl
theorem q1285 : (Jvm.Cond.methodLink "NineGravesModel" (87 : Nat) ({ cls := "NineGravesModel", name := "boneAt", desc := "(I)I" } : Jvm.MethodName)) ∈ lw_all := lw_g (lw_at lw_m5 220 rfl) rfl
theorem q1286 : (Jvm.Cond.static ({ cls := "NineGravesModel", name := "boneAt", desc := "(I)I" } : Jvm.MethodName)) ∈ lw_all := lw_g (lw_at lw_m5 221 rfl) rfl
theorem q1287 : (Jvm.Cond.code ({ cls := "NineGravesModel", name := "boneAt", desc := "(I)I" } : Jvm.MethodName) prog_17_method_7_code (1 : Nat) (Option.some Jvm.ClassFile.FieldType.int)) ∈ lw_all := lw_g (lw_at lw_m5 222 rfl) rfl
theorem q1289 : (Jvm.Cond.instanceMethod ({ cls := "NineGravesModel", name := "undo", desc := "()I" } : Jvm.MethodName)) ∈ lw_all := lw_g (lw_at lw_m5 224 rfl) rfl
theorem q1290 : (Jvm.Cond.selects "NineGravesModel" ({ cls := "NineGravesModel", name := "undo", desc := "()I" } : Jvm.MethodName) ({ cls := "NineGravesModel", name := "undo", desc := "()I" } : Jvm.MethodName)) ∈ lw_all := lw_g (lw_at lw_m5 225 rfl) rfl
theorem q1291 : (Jvm.Cond.code ({ cls := "NineGravesModel", name := "undo", desc := "()I" } : Jvm.MethodName) prog_17_method_13_code (4 : Nat) (Option.some Jvm.ClassFile.FieldType.int)) ∈ lw_all := lw_g (lw_at lw_m5 226 rfl) rfl
theorem q1293 : (Jvm.Cond.instanceMethod ({ cls := "NineGravesModel", name := "prove", desc := "(II)Z" } : Jvm.MethodName)) ∈ lw_all := lw_g (lw_at lw_m5 228 rfl) rfl
theorem q1294 : (Jvm.Cond.selects "NineGravesModel" ({ cls := "NineGravesModel", name := "prove", desc := "(II)Z" } : Jvm.MethodName) ({ cls := "NineGravesModel", name := "prove", desc := "(II)Z" } : Jvm.MethodName)) ∈ lw_all := lw_g (lw_at lw_m5 229 rfl) rfl
theorem q1295 : (Jvm.Cond.code ({ cls := "NineGravesModel", name := "prove", desc := "(II)Z" } : Jvm.MethodName) prog_17_method_14_code (3 : Nat) (Option.some Jvm.ClassFile.FieldType.boolean)) ∈ lw_all := lw_g (lw_at lw_m5 230 rfl) rfl
theorem q1296 : (Jvm.Cond.methodLink "NineGravesModel" (91 : Nat) ({ cls := "NineGravesModel", name := "isBone", desc := "(I)Z" } : Jvm.MethodName)) ∈ lw_all := lw_g (lw_at lw_m5 231 rfl) rfl
theorem q1297 : (Jvm.Cond.privateMethod ({ cls := "NineGravesModel", name := "isBone", desc := "(I)Z" } : Jvm.MethodName)) ∈ lw_tbl := lw_at lw_m5 232 rfl
theorem q1298 : (Jvm.Cond.instanceMethod ({ cls := "NineGravesModel", name := "isBone", desc := "(I)Z" } : Jvm.MethodName)) ∈ lw_all := lw_g (lw_at lw_m5 233 rfl) rfl
theorem q1299 : (Jvm.Cond.code ({ cls := "NineGravesModel", name := "isBone", desc := "(I)Z" } : Jvm.MethodName) prog_17_method_6_code (2 : Nat) (Option.some Jvm.ClassFile.FieldType.boolean)) ∈ lw_all := lw_g (lw_at lw_m5 234 rfl) rfl
theorem q1300 : (Jvm.Cond.methodLink "NineGravesModel" (94 : Nat) ({ cls := "NineGravesModel", name := "keep", desc := "()V" } : Jvm.MethodName)) ∈ lw_all := lw_g (lw_at lw_m5 235 rfl) rfl
theorem q1301 : (Jvm.Cond.privateMethod ({ cls := "NineGravesModel", name := "keep", desc := "()V" } : Jvm.MethodName)) ∈ lw_tbl := lw_at lw_m5 236 rfl
theorem q1302 : (Jvm.Cond.instanceMethod ({ cls := "NineGravesModel", name := "keep", desc := "()V" } : Jvm.MethodName)) ∈ lw_all := lw_g (lw_at lw_m5 237 rfl) rfl
theorem q1303 : (Jvm.Cond.code ({ cls := "NineGravesModel", name := "keep", desc := "()V" } : Jvm.MethodName) prog_17_method_12_code (4 : Nat) (Option.none : Option Jvm.ClassFile.FieldType)) ∈ lw_all := lw_g (lw_at lw_m5 238 rfl) rfl
theorem q1305 : (Jvm.Cond.instanceMethod ({ cls := "NineGravesModel", name := "lend", desc := "(III)I" } : Jvm.MethodName)) ∈ lw_all := lw_g (lw_at lw_m6 0 rfl) rfl
theorem q1306 : (Jvm.Cond.selects "NineGravesModel" ({ cls := "NineGravesModel", name := "lend", desc := "(III)I" } : Jvm.MethodName) ({ cls := "NineGravesModel", name := "lend", desc := "(III)I" } : Jvm.MethodName)) ∈ lw_all := lw_g (lw_at lw_m6 1 rfl) rfl
theorem q1307 : (Jvm.Cond.code ({ cls := "NineGravesModel", name := "lend", desc := "(III)I" } : Jvm.MethodName) prog_17_method_15_code (5 : Nat) (Option.some Jvm.ClassFile.FieldType.int)) ∈ lw_all := lw_g (lw_at lw_m6 2 rfl) rfl
theorem q1309 : (Jvm.Cond.instanceMethod ({ cls := "NineGravesModel", name := "swap", desc := "(II)Z" } : Jvm.MethodName)) ∈ lw_all := lw_g (lw_at lw_m6 4 rfl) rfl
theorem q1310 : (Jvm.Cond.selects "NineGravesModel" ({ cls := "NineGravesModel", name := "swap", desc := "(II)Z" } : Jvm.MethodName) ({ cls := "NineGravesModel", name := "swap", desc := "(II)Z" } : Jvm.MethodName)) ∈ lw_all := lw_g (lw_at lw_m6 5 rfl) rfl
theorem q1311 : (Jvm.Cond.code ({ cls := "NineGravesModel", name := "swap", desc := "(II)Z" } : Jvm.MethodName) prog_17_method_16_code (4 : Nat) (Option.some Jvm.ClassFile.FieldType.boolean)) ∈ lw_all := lw_g (lw_at lw_m6 6 rfl) rfl
theorem q1313 : (Jvm.Cond.instanceMethod ({ cls := "NineGravesModel", name := "steal", desc := "(II)Z" } : Jvm.MethodName)) ∈ lw_all := lw_g (lw_at lw_m6 8 rfl) rfl
theorem q1314 : (Jvm.Cond.selects "NineGravesModel" ({ cls := "NineGravesModel", name := "steal", desc := "(II)Z" } : Jvm.MethodName) ({ cls := "NineGravesModel", name := "steal", desc := "(II)Z" } : Jvm.MethodName)) ∈ lw_all := lw_g (lw_at lw_m6 9 rfl) rfl
theorem q1315 : (Jvm.Cond.code ({ cls := "NineGravesModel", name := "steal", desc := "(II)Z" } : Jvm.MethodName) prog_17_method_17_code (4 : Nat) (Option.some Jvm.ClassFile.FieldType.boolean)) ∈ lw_all := lw_g (lw_at lw_m6 10 rfl) rfl
theorem q1317 : (Jvm.Cond.instanceMethod ({ cls := "NineGravesModel", name := "burn", desc := "(I)I" } : Jvm.MethodName)) ∈ lw_all := lw_g (lw_at lw_m6 12 rfl) rfl
theorem q1318 : (Jvm.Cond.selects "NineGravesModel" ({ cls := "NineGravesModel", name := "burn", desc := "(I)I" } : Jvm.MethodName) ({ cls := "NineGravesModel", name := "burn", desc := "(I)I" } : Jvm.MethodName)) ∈ lw_all := lw_g (lw_at lw_m6 13 rfl) rfl
theorem q1319 : (Jvm.Cond.code ({ cls := "NineGravesModel", name := "burn", desc := "(I)I" } : Jvm.MethodName) prog_17_method_18_code (4 : Nat) (Option.some Jvm.ClassFile.FieldType.int)) ∈ lw_all := lw_g (lw_at lw_m6 14 rfl) rfl
theorem q1320 : (Jvm.Cond.methodLink "NineGravesModel" (97 : Nat) ({ cls := "NineGravesModel", name := "proofsOf", desc := "(I)I" } : Jvm.MethodName)) ∈ lw_all := lw_g (lw_at lw_m6 15 rfl) rfl
theorem q1321 : (Jvm.Cond.privateMethod ({ cls := "NineGravesModel", name := "proofsOf", desc := "(I)I" } : Jvm.MethodName)) ∈ lw_tbl := lw_at lw_m6 16 rfl
theorem q1322 : (Jvm.Cond.instanceMethod ({ cls := "NineGravesModel", name := "proofsOf", desc := "(I)I" } : Jvm.MethodName)) ∈ lw_all := lw_g (lw_at lw_m6 17 rfl) rfl
theorem q1323 : (Jvm.Cond.code ({ cls := "NineGravesModel", name := "proofsOf", desc := "(I)I" } : Jvm.MethodName) prog_17_method_19_code (4 : Nat) (Option.some Jvm.ClassFile.FieldType.int)) ∈ lw_all := lw_g (lw_at lw_m6 18 rfl) rfl
theorem q1325 : (Jvm.Cond.instanceMethod ({ cls := "NineGravesModel", name := "pass", desc := "(I)I" } : Jvm.MethodName)) ∈ lw_all := lw_g (lw_at lw_m6 20 rfl) rfl
theorem q1326 : (Jvm.Cond.selects "NineGravesModel" ({ cls := "NineGravesModel", name := "pass", desc := "(I)I" } : Jvm.MethodName) ({ cls := "NineGravesModel", name := "pass", desc := "(I)I" } : Jvm.MethodName)) ∈ lw_all := lw_g (lw_at lw_m6 21 rfl) rfl
theorem q1327 : (Jvm.Cond.code ({ cls := "NineGravesModel", name := "pass", desc := "(I)I" } : Jvm.MethodName) prog_17_method_20_code (3 : Nat) (Option.some Jvm.ClassFile.FieldType.int)) ∈ lw_all := lw_g (lw_at lw_m6 22 rfl) rfl
theorem q1328 : (Jvm.Cond.methodLink "NineGravesModel" (100 : Nat) ({ cls := "NineGravesModel", name := "passOne", desc := "()V" } : Jvm.MethodName)) ∈ lw_all := lw_g (lw_at lw_m6 23 rfl) rfl
theorem q1329 : (Jvm.Cond.privateMethod ({ cls := "NineGravesModel", name := "passOne", desc := "()V" } : Jvm.MethodName)) ∈ lw_tbl := lw_at lw_m6 24 rfl
theorem q1330 : (Jvm.Cond.instanceMethod ({ cls := "NineGravesModel", name := "passOne", desc := "()V" } : Jvm.MethodName)) ∈ lw_all := lw_g (lw_at lw_m6 25 rfl) rfl
theorem q1331 : (Jvm.Cond.code ({ cls := "NineGravesModel", name := "passOne", desc := "()V" } : Jvm.MethodName) prog_17_method_21_code (6 : Nat) (Option.none : Option Jvm.ClassFile.FieldType)) ∈ lw_all := lw_g (lw_at lw_m6 26 rfl) rfl
theorem q1332 : (Jvm.Cond.methodLink "NineGravesModel" (103 : Nat) ({ cls := "NineGravesModel", name := "clauseOf", desc := "(I)I" } : Jvm.MethodName)) ∈ lw_all := lw_g (lw_at lw_m6 27 rfl) rfl
theorem q1333 : (Jvm.Cond.privateMethod ({ cls := "NineGravesModel", name := "clauseOf", desc := "(I)I" } : Jvm.MethodName)) ∈ lw_tbl := lw_at lw_m6 28 rfl
theorem q1334 : (Jvm.Cond.instanceMethod ({ cls := "NineGravesModel", name := "clauseOf", desc := "(I)I" } : Jvm.MethodName)) ∈ lw_all := lw_g (lw_at lw_m6 29 rfl) rfl
theorem q1335 : (Jvm.Cond.code ({ cls := "NineGravesModel", name := "clauseOf", desc := "(I)I" } : Jvm.MethodName) prog_17_method_66_code (3 : Nat) (Option.some Jvm.ClassFile.FieldType.int)) ∈ lw_all := lw_g (lw_at lw_m6 30 rfl) rfl
theorem q1336 : (Jvm.Cond.methodLink "NineGravesModel" (106 : Nat) ({ cls := "NineGravesModel", name := "name", desc := "(II)V" } : Jvm.MethodName)) ∈ lw_all := lw_g (lw_at lw_m6 31 rfl) rfl
theorem q1337 : (Jvm.Cond.privateMethod ({ cls := "NineGravesModel", name := "name", desc := "(II)V" } : Jvm.MethodName)) ∈ lw_tbl := lw_at lw_m6 32 rfl
theorem q1338 : (Jvm.Cond.instanceMethod ({ cls := "NineGravesModel", name := "name", desc := "(II)V" } : Jvm.MethodName)) ∈ lw_all := lw_g (lw_at lw_m6 33 rfl) rfl
theorem q1339 : (Jvm.Cond.code ({ cls := "NineGravesModel", name := "name", desc := "(II)V" } : Jvm.MethodName) prog_17_method_67_code (5 : Nat) (Option.none : Option Jvm.ClassFile.FieldType)) ∈ lw_all := lw_g (lw_at lw_m6 34 rfl) rfl
theorem q1340 : (Jvm.Cond.methodLink "NineGravesModel" (303 : Nat) ({ cls := "NineGravesModel", name := "bits", desc := "(I)I" } : Jvm.MethodName)) ∈ lw_all := lw_g (lw_at lw_m6 35 rfl) rfl
theorem q1341 : (Jvm.Cond.static ({ cls := "NineGravesModel", name := "bits", desc := "(I)I" } : Jvm.MethodName)) ∈ lw_all := lw_g (lw_at lw_m6 36 rfl) rfl
theorem q1342 : (Jvm.Cond.code ({ cls := "NineGravesModel", name := "bits", desc := "(I)I" } : Jvm.MethodName) prog_17_method_4_code (3 : Nat) (Option.some Jvm.ClassFile.FieldType.int)) ∈ lw_all := lw_g (lw_at lw_m6 37 rfl) rfl
theorem q1343 : (Jvm.Cond.methodLink "NineGravesModel" (110 : Nat) ({ cls := "NineGravesModel", name := "work", desc := "(I)V" } : Jvm.MethodName)) ∈ lw_all := lw_g (lw_at lw_m6 38 rfl) rfl
theorem q1344 : (Jvm.Cond.privateMethod ({ cls := "NineGravesModel", name := "work", desc := "(I)V" } : Jvm.MethodName)) ∈ lw_tbl := lw_at lw_m6 39 rfl
theorem q1345 : (Jvm.Cond.instanceMethod ({ cls := "NineGravesModel", name := "work", desc := "(I)V" } : Jvm.MethodName)) ∈ lw_all := lw_g (lw_at lw_m6 40 rfl) rfl
theorem q1346 : (Jvm.Cond.code ({ cls := "NineGravesModel", name := "work", desc := "(I)V" } : Jvm.MethodName) prog_17_method_65_code (9 : Nat) (Option.none : Option Jvm.ClassFile.FieldType)) ∈ lw_all := lw_g (lw_at lw_m6 41 rfl) rfl
theorem q1347 : (Jvm.Cond.methodLink "NineGravesModel" (295 : Nat) ({ cls := "NineGravesModel", name := "two", desc := "(IJJ)J" } : Jvm.MethodName)) ∈ lw_all := lw_g (lw_at lw_m6 42 rfl) rfl
theorem q1348 : (Jvm.Cond.static ({ cls := "NineGravesModel", name := "two", desc := "(IJJ)J" } : Jvm.MethodName)) ∈ lw_all := lw_g (lw_at lw_m6 43 rfl) rfl
theorem q1349 : (Jvm.Cond.code ({ cls := "NineGravesModel", name := "two", desc := "(IJJ)J" } : Jvm.MethodName) prog_17_method_63_code (5 : Nat) (Option.some Jvm.ClassFile.FieldType.long)) ∈ lw_all := lw_g (lw_at lw_m6 44 rfl) rfl
theorem q1350 : (Jvm.Cond.methodLink "NineGravesModel" (291 : Nat) ({ cls := "NineGravesModel", name := "clip", desc := "(J)J" } : Jvm.MethodName)) ∈ lw_all := lw_g (lw_at lw_m6 45 rfl) rfl
theorem q1351 : (Jvm.Cond.static ({ cls := "NineGravesModel", name := "clip", desc := "(J)J" } : Jvm.MethodName)) ∈ lw_all := lw_g (lw_at lw_m6 46 rfl) rfl
theorem q1352 : (Jvm.Cond.code ({ cls := "NineGravesModel", name := "clip", desc := "(J)J" } : Jvm.MethodName) prog_17_method_62_code (2 : Nat) (Option.some Jvm.ClassFile.FieldType.long)) ∈ lw_all := lw_g (lw_at lw_m6 47 rfl) rfl
theorem q1353 : (Jvm.Cond.constantLong "NineGravesModel" (287 : Nat) (1000000 : Int64)) ∈ lw_all := lw_g (lw_at lw_m6 48 rfl) rfl
theorem q1354 : (Jvm.Cond.constantLong "NineGravesModel" (289 : Nat) (-1000000 : Int64)) ∈ lw_all := lw_g (lw_at lw_m6 49 rfl) rfl
theorem q1355 : (Jvm.Cond.methodLink "NineGravesModel" (299 : Nat) ({ cls := "NineGravesModel", name := "isAsked", desc := "(IJJ)Z" } : Jvm.MethodName)) ∈ lw_all := lw_g (lw_at lw_m6 50 rfl) rfl
theorem q1356 : (Jvm.Cond.static ({ cls := "NineGravesModel", name := "isAsked", desc := "(IJJ)Z" } : Jvm.MethodName)) ∈ lw_all := lw_g (lw_at lw_m6 51 rfl) rfl
theorem q1357 : (Jvm.Cond.code ({ cls := "NineGravesModel", name := "isAsked", desc := "(IJJ)Z" } : Jvm.MethodName) prog_17_method_64_code (5 : Nat) (Option.some Jvm.ClassFile.FieldType.boolean)) ∈ lw_all := lw_g (lw_at lw_m6 52 rfl) rfl
theorem q1359 : (Jvm.Cond.instanceMethod ({ cls := "NineGravesModel", name := "feed", desc := "(IIIII)I" } : Jvm.MethodName)) ∈ lw_all := lw_g (lw_at lw_m6 54 rfl) rfl
theorem q1360 : (Jvm.Cond.selects "NineGravesModel" ({ cls := "NineGravesModel", name := "feed", desc := "(IIIII)I" } : Jvm.MethodName) ({ cls := "NineGravesModel", name := "feed", desc := "(IIIII)I" } : Jvm.MethodName)) ∈ lw_all := lw_g (lw_at lw_m6 55 rfl) rfl
theorem q1361 : (Jvm.Cond.code ({ cls := "NineGravesModel", name := "feed", desc := "(IIIII)I" } : Jvm.MethodName) prog_17_method_23_code (6 : Nat) (Option.some Jvm.ClassFile.FieldType.int)) ∈ lw_all := lw_g (lw_at lw_m6 56 rfl) rfl
theorem q1362 : (Jvm.Cond.methodLink "NineGravesModel" (117 : Nat) ({ cls := "NineGravesModel", name := "four", desc := "(I)V" } : Jvm.MethodName)) ∈ lw_all := lw_g (lw_at lw_m6 57 rfl) rfl
theorem q1363 : (Jvm.Cond.privateMethod ({ cls := "NineGravesModel", name := "four", desc := "(I)V" } : Jvm.MethodName)) ∈ lw_tbl := lw_at lw_m6 58 rfl
theorem q1364 : (Jvm.Cond.instanceMethod ({ cls := "NineGravesModel", name := "four", desc := "(I)V" } : Jvm.MethodName)) ∈ lw_all := lw_g (lw_at lw_m6 59 rfl) rfl
theorem q1365 : (Jvm.Cond.code ({ cls := "NineGravesModel", name := "four", desc := "(I)V" } : Jvm.MethodName) prog_17_method_22_code (3 : Nat) (Option.none : Option Jvm.ClassFile.FieldType)) ∈ lw_all := lw_g (lw_at lw_m6 60 rfl) rfl
theorem q1367 : (Jvm.Cond.instanceMethod ({ cls := "NineGravesModel", name := "end", desc := "(I)I" } : Jvm.MethodName)) ∈ lw_all := lw_g (lw_at lw_m6 62 rfl) rfl
theorem q1368 : (Jvm.Cond.selects "NineGravesModel" ({ cls := "NineGravesModel", name := "end", desc := "(I)I" } : Jvm.MethodName) ({ cls := "NineGravesModel", name := "end", desc := "(I)I" } : Jvm.MethodName)) ∈ lw_all := lw_g (lw_at lw_m6 63 rfl) rfl
theorem q1369 : (Jvm.Cond.code ({ cls := "NineGravesModel", name := "end", desc := "(I)I" } : Jvm.MethodName) prog_17_method_24_code (2 : Nat) (Option.some Jvm.ClassFile.FieldType.int)) ∈ lw_all := lw_g (lw_at lw_m6 64 rfl) rfl
theorem q1371 : (Jvm.Cond.instanceMethod ({ cls := "NineGravesModel", name := "text", desc := "()I" } : Jvm.MethodName)) ∈ lw_all := lw_g (lw_at lw_m6 66 rfl) rfl
theorem q1372 : (Jvm.Cond.selects "NineGravesModel" ({ cls := "NineGravesModel", name := "text", desc := "()I" } : Jvm.MethodName) ({ cls := "NineGravesModel", name := "text", desc := "()I" } : Jvm.MethodName)) ∈ lw_all := lw_g (lw_at lw_m6 67 rfl) rfl
theorem q1373 : (Jvm.Cond.code ({ cls := "NineGravesModel", name := "text", desc := "()I" } : Jvm.MethodName) prog_17_method_57_code (1 : Nat) (Option.some Jvm.ClassFile.FieldType.int)) ∈ lw_all := lw_g (lw_at lw_m6 68 rfl) rfl
theorem q1374 : (Jvm.Cond.methodLink "NineGravesModel" (265 : Nat) ({ cls := "NineGravesModel", name := "readText", desc := "()I" } : Jvm.MethodName)) ∈ lw_all := lw_g (lw_at lw_m6 69 rfl) rfl
theorem q1375 : (Jvm.Cond.privateMethod ({ cls := "NineGravesModel", name := "readText", desc := "()I" } : Jvm.MethodName)) ∈ lw_tbl := lw_at lw_m6 70 rfl
theorem q1376 : (Jvm.Cond.instanceMethod ({ cls := "NineGravesModel", name := "readText", desc := "()I" } : Jvm.MethodName)) ∈ lw_all := lw_g (lw_at lw_m6 71 rfl) rfl
theorem q1377 : (Jvm.Cond.code ({ cls := "NineGravesModel", name := "readText", desc := "()I" } : Jvm.MethodName) prog_17_method_56_code (2 : Nat) (Option.some Jvm.ClassFile.FieldType.int)) ∈ lw_all := lw_g (lw_at lw_m6 72 rfl) rfl
theorem q1378 : (Jvm.Cond.methodLink "NineGravesModel" (184 : Nat) ({ cls := "NineGravesModel", name := "nextToken", desc := "()V" } : Jvm.MethodName)) ∈ lw_all := lw_g (lw_at lw_m6 73 rfl) rfl
theorem q1379 : (Jvm.Cond.privateMethod ({ cls := "NineGravesModel", name := "nextToken", desc := "()V" } : Jvm.MethodName)) ∈ lw_tbl := lw_at lw_m6 74 rfl
theorem q1380 : (Jvm.Cond.instanceMethod ({ cls := "NineGravesModel", name := "nextToken", desc := "()V" } : Jvm.MethodName)) ∈ lw_all := lw_g (lw_at lw_m6 75 rfl) rfl
theorem q1381 : (Jvm.Cond.code ({ cls := "NineGravesModel", name := "nextToken", desc := "()V" } : Jvm.MethodName) prog_17_method_28_code (3 : Nat) (Option.none : Option Jvm.ClassFile.FieldType)) ∈ lw_all := lw_g (lw_at lw_m6 76 rfl) rfl
theorem q1382 : (Jvm.Cond.methodLink "NineGravesModel" (123 : Nat) ({ cls := "NineGravesModel", name := "byteAt", desc := "(I)I" } : Jvm.MethodName)) ∈ lw_all := lw_g (lw_at lw_m6 77 rfl) rfl
theorem q1383 : (Jvm.Cond.privateMethod ({ cls := "NineGravesModel", name := "byteAt", desc := "(I)I" } : Jvm.MethodName)) ∈ lw_tbl := lw_at lw_m6 78 rfl
theorem q1384 : (Jvm.Cond.instanceMethod ({ cls := "NineGravesModel", name := "byteAt", desc := "(I)I" } : Jvm.MethodName)) ∈ lw_all := lw_g (lw_at lw_m6 79 rfl) rfl
theorem q1385 : (Jvm.Cond.code ({ cls := "NineGravesModel", name := "byteAt", desc := "(I)I" } : Jvm.MethodName) prog_17_method_25_code (2 : Nat) (Option.some Jvm.ClassFile.FieldType.int)) ∈ lw_all := lw_g (lw_at lw_m6 80 rfl) rfl
theorem q1386 : (Jvm.Cond.methodLink "NineGravesModel" (132 : Nat) ({ cls := "NineGravesModel", name := "isDigit", desc := "(I)Z" } : Jvm.MethodName)) ∈ lw_all := lw_g (lw_at lw_m6 81 rfl) rfl
theorem q1387 : (Jvm.Cond.static ({ cls := "NineGravesModel", name := "isDigit", desc := "(I)Z" } : Jvm.MethodName)) ∈ lw_all := lw_g (lw_at lw_m6 82 rfl) rfl
theorem q1388 : (Jvm.Cond.code ({ cls := "NineGravesModel", name := "isDigit", desc := "(I)Z" } : Jvm.MethodName) prog_17_method_27_code (1 : Nat) (Option.some Jvm.ClassFile.FieldType.boolean)) ∈ lw_all := lw_g (lw_at lw_m6 83 rfl) rfl
theorem q1389 : (Jvm.Cond.constant "NineGravesModel" (138 : Nat) (100000 : Int32)) ∈ lw_all := lw_g (lw_at lw_m6 84 rfl) rfl
theorem q1390 : (Jvm.Cond.methodLink "NineGravesModel" (139 : Nat) ({ cls := "NineGravesModel", name := "isLetter", desc := "(I)Z" } : Jvm.MethodName)) ∈ lw_all := lw_g (lw_at lw_m6 85 rfl) rfl
theorem q1391 : (Jvm.Cond.static ({ cls := "NineGravesModel", name := "isLetter", desc := "(I)Z" } : Jvm.MethodName)) ∈ lw_all := lw_g (lw_at lw_m6 86 rfl) rfl
theorem q1392 : (Jvm.Cond.code ({ cls := "NineGravesModel", name := "isLetter", desc := "(I)Z" } : Jvm.MethodName) prog_17_method_26_code (1 : Nat) (Option.some Jvm.ClassFile.FieldType.boolean)) ∈ lw_all := lw_g (lw_at lw_m6 87 rfl) rfl
theorem q1393 : (Jvm.Cond.methodLink "NineGravesModel" (262 : Nat) ({ cls := "NineGravesModel", name := "clause", desc := "()I" } : Jvm.MethodName)) ∈ lw_all := lw_g (lw_at lw_m6 88 rfl) rfl
theorem q1394 : (Jvm.Cond.privateMethod ({ cls := "NineGravesModel", name := "clause", desc := "()I" } : Jvm.MethodName)) ∈ lw_tbl := lw_at lw_m6 89 rfl
theorem q1395 : (Jvm.Cond.instanceMethod ({ cls := "NineGravesModel", name := "clause", desc := "()I" } : Jvm.MethodName)) ∈ lw_all := lw_g (lw_at lw_m6 90 rfl) rfl
theorem q1396 : (Jvm.Cond.code ({ cls := "NineGravesModel", name := "clause", desc := "()I" } : Jvm.MethodName) prog_17_method_55_code (6 : Nat) (Option.some Jvm.ClassFile.FieldType.int)) ∈ lw_all := lw_g (lw_at lw_m6 91 rfl) rfl
theorem q1397 : (Jvm.Cond.methodLink "NineGravesModel" (250 : Nat) ({ cls := "NineGravesModel", name := "sortOf", desc := "()I" } : Jvm.MethodName)) ∈ lw_all := lw_g (lw_at lw_m6 92 rfl) rfl
theorem q1398 : (Jvm.Cond.privateMethod ({ cls := "NineGravesModel", name := "sortOf", desc := "()I" } : Jvm.MethodName)) ∈ lw_tbl := lw_at lw_m6 93 rfl
theorem q1399 : (Jvm.Cond.instanceMethod ({ cls := "NineGravesModel", name := "sortOf", desc := "()I" } : Jvm.MethodName)) ∈ lw_all := lw_g (lw_at lw_m6 94 rfl) rfl
theorem q1400 : (Jvm.Cond.code ({ cls := "NineGravesModel", name := "sortOf", desc := "()I" } : Jvm.MethodName) prog_17_method_48_code (1 : Nat) (Option.some Jvm.ClassFile.FieldType.int)) ∈ lw_all := lw_g (lw_at lw_m6 95 rfl) rfl
theorem q1401 : (Jvm.Cond.methodLink "NineGravesModel" (173 : Nat) ({ cls := "NineGravesModel", name := "w4", desc := "(IIII)J" } : Jvm.MethodName)) ∈ lw_all := lw_g (lw_at lw_m6 96 rfl) rfl
theorem q1402 : (Jvm.Cond.static ({ cls := "NineGravesModel", name := "w4", desc := "(IIII)J" } : Jvm.MethodName)) ∈ lw_all := lw_g (lw_at lw_m6 97 rfl) rfl
theorem q1403 : (Jvm.Cond.code ({ cls := "NineGravesModel", name := "w4", desc := "(IIII)J" } : Jvm.MethodName) prog_17_method_31_code (4 : Nat) (Option.some Jvm.ClassFile.FieldType.long)) ∈ lw_all := lw_g (lw_at lw_m6 98 rfl) rfl
theorem q1404 : (Jvm.Cond.methodLink "NineGravesModel" (146 : Nat) ({ cls := "NineGravesModel", name := "w3", desc := "(III)J" } : Jvm.MethodName)) ∈ lw_all := lw_g (lw_at lw_m6 99 rfl) rfl
theorem q1405 : (Jvm.Cond.static ({ cls := "NineGravesModel", name := "w3", desc := "(III)J" } : Jvm.MethodName)) ∈ lw_all := lw_g (lw_at lw_m6 100 rfl) rfl
theorem q1406 : (Jvm.Cond.code ({ cls := "NineGravesModel", name := "w3", desc := "(III)J" } : Jvm.MethodName) prog_17_method_29_code (3 : Nat) (Option.some Jvm.ClassFile.FieldType.long)) ∈ lw_all := lw_g (lw_at lw_m6 101 rfl) rfl
theorem q1407 : (Jvm.Cond.methodLink "NineGravesModel" (216 : Nat) ({ cls := "NineGravesModel", name := "isWord", desc := "(J)Z" } : Jvm.MethodName)) ∈ lw_all := lw_g (lw_at lw_m6 102 rfl) rfl
theorem q1408 : (Jvm.Cond.privateMethod ({ cls := "NineGravesModel", name := "isWord", desc := "(J)Z" } : Jvm.MethodName)) ∈ lw_tbl := lw_at lw_m6 103 rfl
theorem q1409 : (Jvm.Cond.instanceMethod ({ cls := "NineGravesModel", name := "isWord", desc := "(J)Z" } : Jvm.MethodName)) ∈ lw_all := lw_g (lw_at lw_m6 104 rfl) rfl
theorem q1410 : (Jvm.Cond.code ({ cls := "NineGravesModel", name := "isWord", desc := "(J)Z" } : Jvm.MethodName) prog_17_method_33_code (3 : Nat) (Option.some Jvm.ClassFile.FieldType.boolean)) ∈ lw_all := lw_g (lw_at lw_m6 105 rfl) rfl
theorem q1411 : (Jvm.Cond.methodLink "NineGravesModel" (177 : Nat) ({ cls := "NineGravesModel", name := "w6", desc := "(IIIIII)J" } : Jvm.MethodName)) ∈ lw_all := lw_g (lw_at lw_m6 106 rfl) rfl
theorem q1412 : (Jvm.Cond.static ({ cls := "NineGravesModel", name := "w6", desc := "(IIIIII)J" } : Jvm.MethodName)) ∈ lw_all := lw_g (lw_at lw_m6 107 rfl) rfl
theorem q1413 : (Jvm.Cond.code ({ cls := "NineGravesModel", name := "w6", desc := "(IIIIII)J" } : Jvm.MethodName) prog_17_method_32_code (6 : Nat) (Option.some Jvm.ClassFile.FieldType.long)) ∈ lw_all := lw_g (lw_at lw_m6 108 rfl) rfl
theorem q1414 : (Jvm.Cond.methodLink "NineGravesModel" (150 : Nat) ({ cls := "NineGravesModel", name := "w5", desc := "(IIIII)J" } : Jvm.MethodName)) ∈ lw_all := lw_g (lw_at lw_m6 109 rfl) rfl
theorem q1415 : (Jvm.Cond.static ({ cls := "NineGravesModel", name := "w5", desc := "(IIIII)J" } : Jvm.MethodName)) ∈ lw_all := lw_g (lw_at lw_m6 110 rfl) rfl
theorem q1416 : (Jvm.Cond.code ({ cls := "NineGravesModel", name := "w5", desc := "(IIIII)J" } : Jvm.MethodName) prog_17_method_30_code (5 : Nat) (Option.some Jvm.ClassFile.FieldType.long)) ∈ lw_all := lw_g (lw_at lw_m6 111 rfl) rfl
theorem q1417 : (Jvm.Cond.methodLink "NineGravesModel" (256 : Nat) ({ cls := "NineGravesModel", name := "done", desc := "(II)I" } : Jvm.MethodName)) ∈ lw_all := lw_g (lw_at lw_m6 112 rfl) rfl
theorem q1418 : (Jvm.Cond.privateMethod ({ cls := "NineGravesModel", name := "done", desc := "(II)I" } : Jvm.MethodName)) ∈ lw_tbl := lw_at lw_m6 113 rfl
theorem q1419 : (Jvm.Cond.instanceMethod ({ cls := "NineGravesModel", name := "done", desc := "(II)I" } : Jvm.MethodName)) ∈ lw_all := lw_g (lw_at lw_m6 114 rfl) rfl
theorem q1420 : (Jvm.Cond.code ({ cls := "NineGravesModel", name := "done", desc := "(II)I" } : Jvm.MethodName) prog_17_method_54_code (4 : Nat) (Option.some Jvm.ClassFile.FieldType.int)) ∈ lw_all := lw_g (lw_at lw_m6 115 rfl) rfl
theorem q1421 : (Jvm.Cond.methodLink "NineGravesModel" (244 : Nat) ({ cls := "NineGravesModel", name := "kind", desc := "(I)I" } : Jvm.MethodName)) ∈ lw_all := lw_g (lw_at lw_m6 116 rfl) rfl
theorem q1422 : (Jvm.Cond.privateMethod ({ cls := "NineGravesModel", name := "kind", desc := "(I)I" } : Jvm.MethodName)) ∈ lw_tbl := lw_at lw_m6 117 rfl
theorem q1423 : (Jvm.Cond.instanceMethod ({ cls := "NineGravesModel", name := "kind", desc := "(I)I" } : Jvm.MethodName)) ∈ lw_all := lw_g (lw_at lw_m6 118 rfl) rfl
theorem q1424 : (Jvm.Cond.code ({ cls := "NineGravesModel", name := "kind", desc := "(I)I" } : Jvm.MethodName) prog_17_method_52_code (3 : Nat) (Option.some Jvm.ClassFile.FieldType.int)) ∈ lw_all := lw_g (lw_at lw_m6 119 rfl) rfl
theorem q1425 : (Jvm.Cond.methodLink "NineGravesModel" (233 : Nat) ({ cls := "NineGravesModel", name := "figure", desc := "(III)I" } : Jvm.MethodName)) ∈ lw_all := lw_g (lw_at lw_m6 120 rfl) rfl
theorem q1426 : (Jvm.Cond.privateMethod ({ cls := "NineGravesModel", name := "figure", desc := "(III)I" } : Jvm.MethodName)) ∈ lw_tbl := lw_at lw_m6 121 rfl
theorem q1427 : (Jvm.Cond.instanceMethod ({ cls := "NineGravesModel", name := "figure", desc := "(III)I" } : Jvm.MethodName)) ∈ lw_all := lw_g (lw_at lw_m6 122 rfl) rfl
theorem q1428 : (Jvm.Cond.code ({ cls := "NineGravesModel", name := "figure", desc := "(III)I" } : Jvm.MethodName) prog_17_method_49_code (4 : Nat) (Option.some Jvm.ClassFile.FieldType.int)) ∈ lw_all := lw_g (lw_at lw_m6 123 rfl) rfl
theorem q1429 : (Jvm.Cond.methodLink "NineGravesModel" (237 : Nat) ({ cls := "NineGravesModel", name := "step", desc := "(Z)I" } : Jvm.MethodName)) ∈ lw_all := lw_g (lw_at lw_m6 124 rfl) rfl
theorem q1430 : (Jvm.Cond.privateMethod ({ cls := "NineGravesModel", name := "step", desc := "(Z)I" } : Jvm.MethodName)) ∈ lw_tbl := lw_at lw_m6 125 rfl
theorem q1431 : (Jvm.Cond.instanceMethod ({ cls := "NineGravesModel", name := "step", desc := "(Z)I" } : Jvm.MethodName)) ∈ lw_all := lw_g (lw_at lw_m6 126 rfl) rfl
theorem q1432 : (Jvm.Cond.code ({ cls := "NineGravesModel", name := "step", desc := "(Z)I" } : Jvm.MethodName) prog_17_method_50_code (2 : Nat) (Option.some Jvm.ClassFile.FieldType.int)) ∈ lw_all := lw_g (lw_at lw_m6 127 rfl) rfl
theorem q1433 : (Jvm.Cond.methodLink "NineGravesModel" (247 : Nat) ({ cls := "NineGravesModel", name := "lent", desc := "(I)I" } : Jvm.MethodName)) ∈ lw_all := lw_g (lw_at lw_m6 128 rfl) rfl
theorem q1434 : (Jvm.Cond.privateMethod ({ cls := "NineGravesModel", name := "lent", desc := "(I)I" } : Jvm.MethodName)) ∈ lw_tbl := lw_at lw_m6 129 rfl
theorem q1435 : (Jvm.Cond.instanceMethod ({ cls := "NineGravesModel", name := "lent", desc := "(I)I" } : Jvm.MethodName)) ∈ lw_all := lw_g (lw_at lw_m6 130 rfl) rfl
theorem q1436 : (Jvm.Cond.code ({ cls := "NineGravesModel", name := "lent", desc := "(I)I" } : Jvm.MethodName) prog_17_method_53_code (3 : Nat) (Option.some Jvm.ClassFile.FieldType.int)) ∈ lw_all := lw_g (lw_at lw_m6 131 rfl) rfl
theorem q1437 : (Jvm.Cond.methodLink "NineGravesModel" (241 : Nat) ({ cls := "NineGravesModel", name := "isTo", desc := "()Z" } : Jvm.MethodName)) ∈ lw_all := lw_g (lw_at lw_m6 132 rfl) rfl
theorem q1438 : (Jvm.Cond.privateMethod ({ cls := "NineGravesModel", name := "isTo", desc := "()Z" } : Jvm.MethodName)) ∈ lw_tbl := lw_at lw_m6 133 rfl
theorem q1439 : (Jvm.Cond.instanceMethod ({ cls := "NineGravesModel", name := "isTo", desc := "()Z" } : Jvm.MethodName)) ∈ lw_all := lw_g (lw_at lw_m6 134 rfl) rfl
theorem q1440 : (Jvm.Cond.code ({ cls := "NineGravesModel", name := "isTo", desc := "()Z" } : Jvm.MethodName) prog_17_method_51_code (1 : Nat) (Option.some Jvm.ClassFile.FieldType.boolean)) ∈ lw_all := lw_g (lw_at lw_m6 135 rfl) rfl
theorem q1441 : (Jvm.Cond.constantLong "NineGravesModel" (231 : Nat) (29807 : Int64)) ∈ lw_all := lw_g (lw_at lw_m6 136 rfl) rfl
theorem q1442 : (Jvm.Cond.methodLink "NineGravesModel" (220 : Nat) ({ cls := "NineGravesModel", name := "summed", desc := "()I" } : Jvm.MethodName)) ∈ lw_all := lw_g (lw_at lw_m6 137 rfl) rfl
theorem q1443 : (Jvm.Cond.privateMethod ({ cls := "NineGravesModel", name := "summed", desc := "()I" } : Jvm.MethodName)) ∈ lw_tbl := lw_at lw_m6 138 rfl
theorem q1444 : (Jvm.Cond.instanceMethod ({ cls := "NineGravesModel", name := "summed", desc := "()I" } : Jvm.MethodName)) ∈ lw_all := lw_g (lw_at lw_m6 139 rfl) rfl
theorem q1445 : (Jvm.Cond.code ({ cls := "NineGravesModel", name := "summed", desc := "()I" } : Jvm.MethodName) prog_17_method_44_code (2 : Nat) (Option.some Jvm.ClassFile.FieldType.int)) ∈ lw_all := lw_g (lw_at lw_m6 140 rfl) rfl
theorem q1446 : (Jvm.Cond.methodLink "NineGravesModel" (207 : Nat) ({ cls := "NineGravesModel", name := "goesOn", desc := "()Z" } : Jvm.MethodName)) ∈ lw_all := lw_g (lw_at lw_m6 141 rfl) rfl
theorem q1447 : (Jvm.Cond.privateMethod ({ cls := "NineGravesModel", name := "goesOn", desc := "()Z" } : Jvm.MethodName)) ∈ lw_tbl := lw_at lw_m6 142 rfl
theorem q1448 : (Jvm.Cond.instanceMethod ({ cls := "NineGravesModel", name := "goesOn", desc := "()Z" } : Jvm.MethodName)) ∈ lw_all := lw_g (lw_at lw_m6 143 rfl) rfl
theorem q1449 : (Jvm.Cond.code ({ cls := "NineGravesModel", name := "goesOn", desc := "()Z" } : Jvm.MethodName) prog_17_method_42_code (1 : Nat) (Option.some Jvm.ClassFile.FieldType.boolean)) ∈ lw_all := lw_g (lw_at lw_m6 144 rfl) rfl
theorem q1450 : (Jvm.Cond.methodLink "NineGravesModel" (200 : Nat) ({ cls := "NineGravesModel", name := "hasParen", desc := "()Z" } : Jvm.MethodName)) ∈ lw_all := lw_g (lw_at lw_m6 145 rfl) rfl
theorem q1451 : (Jvm.Cond.privateMethod ({ cls := "NineGravesModel", name := "hasParen", desc := "()Z" } : Jvm.MethodName)) ∈ lw_tbl := lw_at lw_m6 146 rfl
theorem q1452 : (Jvm.Cond.instanceMethod ({ cls := "NineGravesModel", name := "hasParen", desc := "()Z" } : Jvm.MethodName)) ∈ lw_all := lw_g (lw_at lw_m6 147 rfl) rfl
theorem q1453 : (Jvm.Cond.code ({ cls := "NineGravesModel", name := "hasParen", desc := "()Z" } : Jvm.MethodName) prog_17_method_41_code (2 : Nat) (Option.some Jvm.ClassFile.FieldType.boolean)) ∈ lw_all := lw_g (lw_at lw_m6 148 rfl) rfl
theorem q1454 : (Jvm.Cond.methodLink "NineGravesModel" (210 : Nat) ({ cls := "NineGravesModel", name := "behindOne", desc := "()I" } : Jvm.MethodName)) ∈ lw_all := lw_g (lw_at lw_m6 149 rfl) rfl
theorem q1455 : (Jvm.Cond.privateMethod ({ cls := "NineGravesModel", name := "behindOne", desc := "()I" } : Jvm.MethodName)) ∈ lw_tbl := lw_at lw_m6 150 rfl
theorem q1456 : (Jvm.Cond.instanceMethod ({ cls := "NineGravesModel", name := "behindOne", desc := "()I" } : Jvm.MethodName)) ∈ lw_all := lw_g (lw_at lw_m6 151 rfl) rfl
theorem q1457 : (Jvm.Cond.code ({ cls := "NineGravesModel", name := "behindOne", desc := "()I" } : Jvm.MethodName) prog_17_method_43_code (2 : Nat) (Option.some Jvm.ClassFile.FieldType.int)) ∈ lw_all := lw_g (lw_at lw_m6 152 rfl) rfl
theorem q1458 : (Jvm.Cond.methodLink "NineGravesModel" (204 : Nat) ({ cls := "NineGravesModel", name := "settle", desc := "(I)V" } : Jvm.MethodName)) ∈ lw_all := lw_g (lw_at lw_m6 153 rfl) rfl
theorem q1459 : (Jvm.Cond.privateMethod ({ cls := "NineGravesModel", name := "settle", desc := "(I)V" } : Jvm.MethodName)) ∈ lw_tbl := lw_at lw_m6 154 rfl
theorem q1460 : (Jvm.Cond.instanceMethod ({ cls := "NineGravesModel", name := "settle", desc := "(I)V" } : Jvm.MethodName)) ∈ lw_all := lw_g (lw_at lw_m6 155 rfl) rfl
theorem q1461 : (Jvm.Cond.code ({ cls := "NineGravesModel", name := "settle", desc := "(I)V" } : Jvm.MethodName) prog_17_method_37_code (2 : Nat) (Option.none : Option Jvm.ClassFile.FieldType)) ∈ lw_all := lw_g (lw_at lw_m6 156 rfl) rfl
theorem q1462 : (Jvm.Cond.methodLink "NineGravesModel" (170 : Nat) ({ cls := "NineGravesModel", name := "emit", desc := "(II)V" } : Jvm.MethodName)) ∈ lw_all := lw_g (lw_at lw_m6 157 rfl) rfl
theorem q1463 : (Jvm.Cond.privateMethod ({ cls := "NineGravesModel", name := "emit", desc := "(II)V" } : Jvm.MethodName)) ∈ lw_tbl := lw_at lw_m6 158 rfl
theorem q1464 : (Jvm.Cond.instanceMethod ({ cls := "NineGravesModel", name := "emit", desc := "(II)V" } : Jvm.MethodName)) ∈ lw_all := lw_g (lw_at lw_m6 159 rfl) rfl
theorem q1465 : (Jvm.Cond.code ({ cls := "NineGravesModel", name := "emit", desc := "(II)V" } : Jvm.MethodName) prog_17_method_34_code (3 : Nat) (Option.none : Option Jvm.ClassFile.FieldType)) ∈ lw_all := lw_g (lw_at lw_m6 160 rfl) rfl
theorem q1466 : (Jvm.Cond.methodLink "NineGravesModel" (197 : Nat) ({ cls := "NineGravesModel", name := "push", desc := "(I)V" } : Jvm.MethodName)) ∈ lw_all := lw_g (lw_at lw_m6 161 rfl) rfl
theorem q1467 : (Jvm.Cond.privateMethod ({ cls := "NineGravesModel", name := "push", desc := "(I)V" } : Jvm.MethodName)) ∈ lw_tbl := lw_at lw_m6 162 rfl
theorem q1468 : (Jvm.Cond.instanceMethod ({ cls := "NineGravesModel", name := "push", desc := "(I)V" } : Jvm.MethodName)) ∈ lw_all := lw_g (lw_at lw_m6 163 rfl) rfl
theorem q1469 : (Jvm.Cond.code ({ cls := "NineGravesModel", name := "push", desc := "(I)V" } : Jvm.MethodName) prog_17_method_35_code (2 : Nat) (Option.none : Option Jvm.ClassFile.FieldType)) ∈ lw_all := lw_g (lw_at lw_m6 164 rfl) rfl
theorem q1470 : (Jvm.Cond.methodLink "NineGravesModel" (187 : Nat) ({ cls := "NineGravesModel", name := "whole", desc := "()V" } : Jvm.MethodName)) ∈ lw_all := lw_g (lw_at lw_m6 165 rfl) rfl
theorem q1471 : (Jvm.Cond.privateMethod ({ cls := "NineGravesModel", name := "whole", desc := "()V" } : Jvm.MethodName)) ∈ lw_tbl := lw_at lw_m6 166 rfl
theorem q1472 : (Jvm.Cond.instanceMethod ({ cls := "NineGravesModel", name := "whole", desc := "()V" } : Jvm.MethodName)) ∈ lw_all := lw_g (lw_at lw_m6 167 rfl) rfl
theorem q1473 : (Jvm.Cond.code ({ cls := "NineGravesModel", name := "whole", desc := "()V" } : Jvm.MethodName) prog_17_method_36_code (1 : Nat) (Option.none : Option Jvm.ClassFile.FieldType)) ∈ lw_all := lw_g (lw_at lw_m6 168 rfl) rfl
theorem q1474 : (Jvm.Cond.methodLink "NineGravesModel" (213 : Nat) ({ cls := "NineGravesModel", name := "beginOne", desc := "()I" } : Jvm.MethodName)) ∈ lw_all := lw_g (lw_at lw_m6 169 rfl) rfl
theorem q1475 : (Jvm.Cond.privateMethod ({ cls := "NineGravesModel", name := "beginOne", desc := "()I" } : Jvm.MethodName)) ∈ lw_tbl := lw_at lw_m6 170 rfl
theorem q1476 : (Jvm.Cond.instanceMethod ({ cls := "NineGravesModel", name := "beginOne", desc := "()I" } : Jvm.MethodName)) ∈ lw_all := lw_g (lw_at lw_m6 171 rfl) rfl
theorem q1477 : (Jvm.Cond.code ({ cls := "NineGravesModel", name := "beginOne", desc := "()I" } : Jvm.MethodName) prog_17_method_40_code (2 : Nat) (Option.some Jvm.ClassFile.FieldType.int)) ∈ lw_all := lw_g (lw_at lw_m6 172 rfl) rfl
theorem q1478 : (Jvm.Cond.methodLink "NineGravesModel" (190 : Nat) ({ cls := "NineGravesModel", name := "nameOf", desc := "()I" } : Jvm.MethodName)) ∈ lw_all := lw_g (lw_at lw_m6 173 rfl) rfl
theorem q1479 : (Jvm.Cond.privateMethod ({ cls := "NineGravesModel", name := "nameOf", desc := "()I" } : Jvm.MethodName)) ∈ lw_tbl := lw_at lw_m6 174 rfl
theorem q1480 : (Jvm.Cond.instanceMethod ({ cls := "NineGravesModel", name := "nameOf", desc := "()I" } : Jvm.MethodName)) ∈ lw_all := lw_g (lw_at lw_m6 175 rfl) rfl
theorem q1481 : (Jvm.Cond.code ({ cls := "NineGravesModel", name := "nameOf", desc := "()I" } : Jvm.MethodName) prog_17_method_38_code (1 : Nat) (Option.some Jvm.ClassFile.FieldType.int)) ∈ lw_all := lw_g (lw_at lw_m6 176 rfl) rfl
theorem q1482 : (Jvm.Cond.methodLink "NineGravesModel" (194 : Nat) ({ cls := "NineGravesModel", name := "isBarred", desc := "(I)Z" } : Jvm.MethodName)) ∈ lw_all := lw_g (lw_at lw_m6 177 rfl) rfl
theorem q1483 : (Jvm.Cond.privateMethod ({ cls := "NineGravesModel", name := "isBarred", desc := "(I)Z" } : Jvm.MethodName)) ∈ lw_tbl := lw_at lw_m6 178 rfl
theorem q1484 : (Jvm.Cond.instanceMethod ({ cls := "NineGravesModel", name := "isBarred", desc := "(I)Z" } : Jvm.MethodName)) ∈ lw_all := lw_g (lw_at lw_m6 179 rfl) rfl
theorem q1485 : (Jvm.Cond.code ({ cls := "NineGravesModel", name := "isBarred", desc := "(I)Z" } : Jvm.MethodName) prog_17_method_39_code (2 : Nat) (Option.some Jvm.ClassFile.FieldType.boolean)) ∈ lw_all := lw_g (lw_at lw_m6 180 rfl) rfl
theorem q1486 : (Jvm.Cond.methodLink "NineGravesModel" (259 : Nat) ({ cls := "NineGravesModel", name := "either", desc := "()I" } : Jvm.MethodName)) ∈ lw_all := lw_g (lw_at lw_m6 181 rfl) rfl
theorem q1487 : (Jvm.Cond.privateMethod ({ cls := "NineGravesModel", name := "either", desc := "()I" } : Jvm.MethodName)) ∈ lw_tbl := lw_at lw_m6 182 rfl
theorem q1488 : (Jvm.Cond.instanceMethod ({ cls := "NineGravesModel", name := "either", desc := "()I" } : Jvm.MethodName)) ∈ lw_all := lw_g (lw_at lw_m6 183 rfl) rfl
theorem q1489 : (Jvm.Cond.code ({ cls := "NineGravesModel", name := "either", desc := "()I" } : Jvm.MethodName) prog_17_method_47_code (6 : Nat) (Option.some Jvm.ClassFile.FieldType.int)) ∈ lw_all := lw_g (lw_at lw_m6 184 rfl) rfl
theorem q1490 : (Jvm.Cond.methodLink "NineGravesModel" (226 : Nat) ({ cls := "NineGravesModel", name := "asks", desc := "()I" } : Jvm.MethodName)) ∈ lw_all := lw_g (lw_at lw_m6 185 rfl) rfl
theorem q1491 : (Jvm.Cond.privateMethod ({ cls := "NineGravesModel", name := "asks", desc := "()I" } : Jvm.MethodName)) ∈ lw_tbl := lw_at lw_m6 186 rfl
theorem q1492 : (Jvm.Cond.instanceMethod ({ cls := "NineGravesModel", name := "asks", desc := "()I" } : Jvm.MethodName)) ∈ lw_all := lw_g (lw_at lw_m6 187 rfl) rfl
theorem q1493 : (Jvm.Cond.code ({ cls := "NineGravesModel", name := "asks", desc := "()I" } : Jvm.MethodName) prog_17_method_46_code (5 : Nat) (Option.some Jvm.ClassFile.FieldType.int)) ∈ lw_all := lw_g (lw_at lw_m6 188 rfl) rfl
theorem q1494 : (Jvm.Cond.methodLink "NineGravesModel" (223 : Nat) ({ cls := "NineGravesModel", name := "compareOf", desc := "()I" } : Jvm.MethodName)) ∈ lw_all := lw_g (lw_at lw_m6 189 rfl) rfl
theorem q1495 : (Jvm.Cond.privateMethod ({ cls := "NineGravesModel", name := "compareOf", desc := "()I" } : Jvm.MethodName)) ∈ lw_tbl := lw_at lw_m6 190 rfl
theorem q1496 : (Jvm.Cond.instanceMethod ({ cls := "NineGravesModel", name := "compareOf", desc := "()I" } : Jvm.MethodName)) ∈ lw_all := lw_g (lw_at lw_m6 191 rfl) rfl
theorem q1497 : (Jvm.Cond.code ({ cls := "NineGravesModel", name := "compareOf", desc := "()I" } : Jvm.MethodName) prog_17_method_45_code (1 : Nat) (Option.some Jvm.ClassFile.FieldType.int)) ∈ lw_all := lw_g (lw_at lw_m6 192 rfl) rfl
theorem q1498 : (Jvm.Cond.constantLong "NineGravesModel" (229 : Nat) (28530 : Int64)) ∈ lw_all := lw_g (lw_at lw_m6 193 rfl) rfl
theorem q1500 : (Jvm.Cond.instanceMethod ({ cls := "NineGravesModel", name := "fault", desc := "(I)I" } : Jvm.MethodName)) ∈ lw_all := lw_g (lw_at lw_m6 195 rfl) rfl
theorem q1501 : (Jvm.Cond.selects "NineGravesModel" ({ cls := "NineGravesModel", name := "fault", desc := "(I)I" } : Jvm.MethodName) ({ cls := "NineGravesModel", name := "fault", desc := "(I)I" } : Jvm.MethodName)) ∈ lw_all := lw_g (lw_at lw_m6 196 rfl) rfl
theorem q1502 : (Jvm.Cond.code ({ cls := "NineGravesModel", name := "fault", desc := "(I)I" } : Jvm.MethodName) prog_17_method_58_code (2 : Nat) (Option.some Jvm.ClassFile.FieldType.int)) ∈ lw_all := lw_g (lw_at lw_m6 197 rfl) rfl
theorem q1504 : (Jvm.Cond.instanceMethod ({ cls := "NineGravesModel", name := "by", desc := "(I)Z" } : Jvm.MethodName)) ∈ lw_all := lw_g (lw_at lw_m6 199 rfl) rfl
theorem q1505 : (Jvm.Cond.selects "NineGravesModel" ({ cls := "NineGravesModel", name := "by", desc := "(I)Z" } : Jvm.MethodName) ({ cls := "NineGravesModel", name := "by", desc := "(I)Z" } : Jvm.MethodName)) ∈ lw_all := lw_g (lw_at lw_m6 200 rfl) rfl
theorem q1506 : (Jvm.Cond.code ({ cls := "NineGravesModel", name := "by", desc := "(I)Z" } : Jvm.MethodName) prog_17_method_59_code (2 : Nat) (Option.some Jvm.ClassFile.FieldType.boolean)) ∈ lw_all := lw_g (lw_at lw_m6 201 rfl) rfl
theorem q1508 : (Jvm.Cond.instanceMethod ({ cls := "NineGravesModel", name := "played", desc := "(I)I" } : Jvm.MethodName)) ∈ lw_all := lw_g (lw_at lw_m6 203 rfl) rfl
theorem q1509 : (Jvm.Cond.selects "NineGravesModel" ({ cls := "NineGravesModel", name := "played", desc := "(I)I" } : Jvm.MethodName) ({ cls := "NineGravesModel", name := "played", desc := "(I)I" } : Jvm.MethodName)) ∈ lw_all := lw_g (lw_at lw_m6 204 rfl) rfl
theorem q1510 : (Jvm.Cond.code ({ cls := "NineGravesModel", name := "played", desc := "(I)I" } : Jvm.MethodName) prog_17_method_61_code (3 : Nat) (Option.some Jvm.ClassFile.FieldType.int)) ∈ lw_all := lw_g (lw_at lw_m6 205 rfl) rfl
theorem q1511 : (Jvm.Cond.methodLink "NineGravesModel" (284 : Nat) ({ cls := "NineGravesModel", name := "isPlayed", desc := "(I)Z" } : Jvm.MethodName)) ∈ lw_all := lw_g (lw_at lw_m6 206 rfl) rfl
theorem q1512 : (Jvm.Cond.privateMethod ({ cls := "NineGravesModel", name := "isPlayed", desc := "(I)Z" } : Jvm.MethodName)) ∈ lw_tbl := lw_at lw_m6 207 rfl
theorem q1513 : (Jvm.Cond.instanceMethod ({ cls := "NineGravesModel", name := "isPlayed", desc := "(I)Z" } : Jvm.MethodName)) ∈ lw_all := lw_g (lw_at lw_m6 208 rfl) rfl
theorem q1514 : (Jvm.Cond.code ({ cls := "NineGravesModel", name := "isPlayed", desc := "(I)Z" } : Jvm.MethodName) prog_17_method_60_code (4 : Nat) (Option.some Jvm.ClassFile.FieldType.boolean)) ∈ lw_all := lw_g (lw_at lw_m6 209 rfl) rfl
theorem q1515 : (Jvm.Cond.methodLink "NineGravesModel" (268 : Nat) ({ cls := "NineGravesModel", name := "lend", desc := "(III)I" } : Jvm.MethodName)) ∈ lw_all := lw_g (lw_at lw_m6 210 rfl) rfl
theorem q1516 : (Jvm.Cond.methodLink "NineGravesModel" (271 : Nat) ({ cls := "NineGravesModel", name := "swap", desc := "(II)Z" } : Jvm.MethodName)) ∈ lw_all := lw_g (lw_at lw_m6 211 rfl) rfl
theorem q1517 : (Jvm.Cond.methodLink "NineGravesModel" (275 : Nat) ({ cls := "NineGravesModel", name := "steal", desc := "(II)Z" } : Jvm.MethodName)) ∈ lw_all := lw_g (lw_at lw_m6 212 rfl) rfl
theorem q1518 : (Jvm.Cond.methodLink "NineGravesModel" (278 : Nat) ({ cls := "NineGravesModel", name := "burn", desc := "(I)I" } : Jvm.MethodName)) ∈ lw_all := lw_g (lw_at lw_m6 213 rfl) rfl
theorem q1519 : (Jvm.Cond.methodLink "NineGravesModel" (281 : Nat) ({ cls := "NineGravesModel", name := "pass", desc := "(I)I" } : Jvm.MethodName)) ∈ lw_all := lw_g (lw_at lw_m6 214 rfl) rfl
theorem q1521 : (Jvm.Cond.instanceMethod ({ cls := "NineGravesModel", name := "of", desc := "(II)I" } : Jvm.MethodName)) ∈ lw_all := lw_g (lw_at lw_m6 216 rfl) rfl
theorem q1522 : (Jvm.Cond.selects "NineGravesModel" ({ cls := "NineGravesModel", name := "of", desc := "(II)I" } : Jvm.MethodName) ({ cls := "NineGravesModel", name := "of", desc := "(II)I" } : Jvm.MethodName)) ∈ lw_all := lw_g (lw_at lw_m6 217 rfl) rfl
theorem q1523 : (Jvm.Cond.code ({ cls := "NineGravesModel", name := "of", desc := "(II)I" } : Jvm.MethodName) prog_17_method_71_code (3 : Nat) (Option.some Jvm.ClassFile.FieldType.int)) ∈ lw_all := lw_g (lw_at lw_m6 218 rfl) rfl
theorem q1524 : (Jvm.Cond.methodLink "NineGravesModel" (306 : Nat) ({ cls := "NineGravesModel", name := "isHoly", desc := "(I)Z" } : Jvm.MethodName)) ∈ lw_all := lw_g (lw_at lw_m6 219 rfl) rfl
theorem q1525 : (Jvm.Cond.privateMethod ({ cls := "NineGravesModel", name := "isHoly", desc := "(I)Z" } : Jvm.MethodName)) ∈ lw_tbl := lw_at lw_m6 220 rfl
theorem q1526 : (Jvm.Cond.instanceMethod ({ cls := "NineGravesModel", name := "isHoly", desc := "(I)Z" } : Jvm.MethodName)) ∈ lw_all := lw_g (lw_at lw_m6 221 rfl) rfl
theorem q1527 : (Jvm.Cond.code ({ cls := "NineGravesModel", name := "isHoly", desc := "(I)Z" } : Jvm.MethodName) prog_17_method_68_code (3 : Nat) (Option.some Jvm.ClassFile.FieldType.boolean)) ∈ lw_all := lw_g (lw_at lw_m6 222 rfl) rfl
theorem q1529 : (Jvm.Cond.instanceMethod ({ cls := "NineGravesModel", name := "saints", desc := "(II)I" } : Jvm.MethodName)) ∈ lw_all := lw_g (lw_at lw_m6 224 rfl) rfl
theorem q1530 : (Jvm.Cond.selects "NineGravesModel" ({ cls := "NineGravesModel", name := "saints", desc := "(II)I" } : Jvm.MethodName) ({ cls := "NineGravesModel", name := "saints", desc := "(II)I" } : Jvm.MethodName)) ∈ lw_all := lw_g (lw_at lw_m6 225 rfl) rfl
theorem q1531 : (Jvm.Cond.code ({ cls := "NineGravesModel", name := "saints", desc := "(II)I" } : Jvm.MethodName) prog_17_method_77_code (5 : Nat) (Option.some Jvm.ClassFile.FieldType.int)) ∈ lw_all := lw_g (lw_at lw_m6 226 rfl) rfl
theorem q1532 : (Jvm.Cond.methodLink "NineGravesModel" (324 : Nat) ({ cls := "NineGravesModel", name := "findAsked", desc := "(I)V" } : Jvm.MethodName)) ∈ lw_all := lw_g (lw_at lw_m6 227 rfl) rfl
theorem q1533 : (Jvm.Cond.privateMethod ({ cls := "NineGravesModel", name := "findAsked", desc := "(I)V" } : Jvm.MethodName)) ∈ lw_tbl := lw_at lw_m6 228 rfl
theorem q1534 : (Jvm.Cond.instanceMethod ({ cls := "NineGravesModel", name := "findAsked", desc := "(I)V" } : Jvm.MethodName)) ∈ lw_all := lw_g (lw_at lw_m6 229 rfl) rfl
theorem q1535 : (Jvm.Cond.code ({ cls := "NineGravesModel", name := "findAsked", desc := "(I)V" } : Jvm.MethodName) prog_17_method_72_code (3 : Nat) (Option.none : Option Jvm.ClassFile.FieldType)) ∈ lw_all := lw_g (lw_at lw_m6 230 rfl) rfl
theorem q1536 : (Jvm.Cond.methodLink "NineGravesModel" (327 : Nat) ({ cls := "NineGravesModel", name := "findBarred", desc := "()V" } : Jvm.MethodName)) ∈ lw_all := lw_g (lw_at lw_m6 231 rfl) rfl
theorem q1537 : (Jvm.Cond.privateMethod ({ cls := "NineGravesModel", name := "findBarred", desc := "()V" } : Jvm.MethodName)) ∈ lw_tbl := lw_at lw_m6 232 rfl
theorem q1538 : (Jvm.Cond.instanceMethod ({ cls := "NineGravesModel", name := "findBarred", desc := "()V" } : Jvm.MethodName)) ∈ lw_all := lw_g (lw_at lw_m6 233 rfl) rfl
theorem q1539 : (Jvm.Cond.code ({ cls := "NineGravesModel", name := "findBarred", desc := "()V" } : Jvm.MethodName) prog_17_method_73_code (3 : Nat) (Option.none : Option Jvm.ClassFile.FieldType)) ∈ lw_all := lw_g (lw_at lw_m6 234 rfl) rfl
theorem q1540 : (Jvm.Cond.methodLink "NineGravesModel" (312 : Nat) ({ cls := "NineGravesModel", name := "manyOf", desc := "(I)I" } : Jvm.MethodName)) ∈ lw_all := lw_g (lw_at lw_m6 235 rfl) rfl
theorem q1541 : (Jvm.Cond.privateMethod ({ cls := "NineGravesModel", name := "manyOf", desc := "(I)I" } : Jvm.MethodName)) ∈ lw_tbl := lw_at lw_m6 236 rfl
theorem q1542 : (Jvm.Cond.instanceMethod ({ cls := "NineGravesModel", name := "manyOf", desc := "(I)I" } : Jvm.MethodName)) ∈ lw_all := lw_g (lw_at lw_m6 237 rfl) rfl
theorem q1543 : (Jvm.Cond.code ({ cls := "NineGravesModel", name := "manyOf", desc := "(I)I" } : Jvm.MethodName) prog_17_method_70_code (4 : Nat) (Option.some Jvm.ClassFile.FieldType.int)) ∈ lw_all := lw_g (lw_at lw_m6 238 rfl) rfl
theorem q1544 : (Jvm.Cond.methodLink "NineGravesModel" (315 : Nat) ({ cls := "NineGravesModel", name := "isUnlike", desc := "(II)Z" } : Jvm.MethodName)) ∈ lw_all := lw_g (lw_at lw_m6 239 rfl) rfl
theorem q1545 : (Jvm.Cond.privateMethod ({ cls := "NineGravesModel", name := "isUnlike", desc := "(II)Z" } : Jvm.MethodName)) ∈ lw_tbl := lw_at lw_m7 0 rfl
theorem q1546 : (Jvm.Cond.instanceMethod ({ cls := "NineGravesModel", name := "isUnlike", desc := "(II)Z" } : Jvm.MethodName)) ∈ lw_all := lw_g (lw_at lw_m7 1 rfl) rfl
theorem q1547 : (Jvm.Cond.code ({ cls := "NineGravesModel", name := "isUnlike", desc := "(II)Z" } : Jvm.MethodName) prog_17_method_69_code (4 : Nat) (Option.some Jvm.ClassFile.FieldType.boolean)) ∈ lw_all := lw_g (lw_at lw_m7 2 rfl) rfl
theorem q1548 : (Jvm.Cond.methodLink "NineGravesModel" (330 : Nat) ({ cls := "NineGravesModel", name := "share", desc := "(I)Z" } : Jvm.MethodName)) ∈ lw_all := lw_g (lw_at lw_m7 3 rfl) rfl
theorem q1549 : (Jvm.Cond.privateMethod ({ cls := "NineGravesModel", name := "share", desc := "(I)Z" } : Jvm.MethodName)) ∈ lw_tbl := lw_at lw_m7 4 rfl
theorem q1550 : (Jvm.Cond.instanceMethod ({ cls := "NineGravesModel", name := "share", desc := "(I)Z" } : Jvm.MethodName)) ∈ lw_all := lw_g (lw_at lw_m7 5 rfl) rfl
theorem q1551 : (Jvm.Cond.code ({ cls := "NineGravesModel", name := "share", desc := "(I)Z" } : Jvm.MethodName) prog_17_method_76_code (4 : Nat) (Option.some Jvm.ClassFile.FieldType.boolean)) ∈ lw_all := lw_g (lw_at lw_m7 6 rfl) rfl
theorem q1552 : (Jvm.Cond.methodLink "NineGravesModel" (318 : Nat) ({ cls := "NineGravesModel", name := "used", desc := "(I)I" } : Jvm.MethodName)) ∈ lw_all := lw_g (lw_at lw_m7 7 rfl) rfl
theorem q1553 : (Jvm.Cond.privateMethod ({ cls := "NineGravesModel", name := "used", desc := "(I)I" } : Jvm.MethodName)) ∈ lw_tbl := lw_at lw_m7 8 rfl
theorem q1554 : (Jvm.Cond.instanceMethod ({ cls := "NineGravesModel", name := "used", desc := "(I)I" } : Jvm.MethodName)) ∈ lw_all := lw_g (lw_at lw_m7 9 rfl) rfl
theorem q1555 : (Jvm.Cond.code ({ cls := "NineGravesModel", name := "used", desc := "(I)I" } : Jvm.MethodName) prog_17_method_75_code (4 : Nat) (Option.some Jvm.ClassFile.FieldType.int)) ∈ lw_all := lw_g (lw_at lw_m7 10 rfl) rfl
theorem q1556 : (Jvm.Cond.methodLink "NineGravesModel" (321 : Nat) ({ cls := "NineGravesModel", name := "canHave", desc := "(II)Z" } : Jvm.MethodName)) ∈ lw_all := lw_g (lw_at lw_m7 11 rfl) rfl
theorem q1557 : (Jvm.Cond.privateMethod ({ cls := "NineGravesModel", name := "canHave", desc := "(II)Z" } : Jvm.MethodName)) ∈ lw_tbl := lw_at lw_m7 12 rfl
theorem q1558 : (Jvm.Cond.instanceMethod ({ cls := "NineGravesModel", name := "canHave", desc := "(II)Z" } : Jvm.MethodName)) ∈ lw_all := lw_g (lw_at lw_m7 13 rfl) rfl
theorem q1559 : (Jvm.Cond.code ({ cls := "NineGravesModel", name := "canHave", desc := "(II)Z" } : Jvm.MethodName) prog_17_method_74_code (5 : Nat) (Option.some Jvm.ClassFile.FieldType.boolean)) ∈ lw_all := lw_g (lw_at lw_m7 14 rfl) rfl
theorem q1561 : (Jvm.Cond.instanceMethod ({ cls := "NineGravesModel", name := "rules", desc := "(II)Z" } : Jvm.MethodName)) ∈ lw_all := lw_g (lw_at lw_m7 16 rfl) rfl
theorem q1562 : (Jvm.Cond.selects "NineGravesModel" ({ cls := "NineGravesModel", name := "rules", desc := "(II)Z" } : Jvm.MethodName) ({ cls := "NineGravesModel", name := "rules", desc := "(II)Z" } : Jvm.MethodName)) ∈ lw_all := lw_g (lw_at lw_m7 17 rfl) rfl
theorem q1563 : (Jvm.Cond.code ({ cls := "NineGravesModel", name := "rules", desc := "(II)Z" } : Jvm.MethodName) prog_17_method_78_code (3 : Nat) (Option.some Jvm.ClassFile.FieldType.boolean)) ∈ lw_all := lw_g (lw_at lw_m7 18 rfl) rfl
theorem q1565 : (Jvm.Cond.instanceMethod ({ cls := "NineGravesModel", name := "seen", desc := "(IIII)I" } : Jvm.MethodName)) ∈ lw_all := lw_g (lw_at lw_m7 20 rfl) rfl
theorem q1566 : (Jvm.Cond.selects "NineGravesModel" ({ cls := "NineGravesModel", name := "seen", desc := "(IIII)I" } : Jvm.MethodName) ({ cls := "NineGravesModel", name := "seen", desc := "(IIII)I" } : Jvm.MethodName)) ∈ lw_all := lw_g (lw_at lw_m7 21 rfl) rfl
theorem q1567 : (Jvm.Cond.code ({ cls := "NineGravesModel", name := "seen", desc := "(IIII)I" } : Jvm.MethodName) prog_17_method_79_code (6 : Nat) (Option.some Jvm.ClassFile.FieldType.int)) ∈ lw_all := lw_g (lw_at lw_m7 22 rfl) rfl
theorem q1569 : (Jvm.Cond.instanceMethod ({ cls := "NineGravesModel", name := "forget", desc := "()I" } : Jvm.MethodName)) ∈ lw_all := lw_g (lw_at lw_m7 24 rfl) rfl
theorem q1570 : (Jvm.Cond.selects "NineGravesModel" ({ cls := "NineGravesModel", name := "forget", desc := "()I" } : Jvm.MethodName) ({ cls := "NineGravesModel", name := "forget", desc := "()I" } : Jvm.MethodName)) ∈ lw_all := lw_g (lw_at lw_m7 25 rfl) rfl
theorem q1571 : (Jvm.Cond.code ({ cls := "NineGravesModel", name := "forget", desc := "()I" } : Jvm.MethodName) prog_17_method_80_code (2 : Nat) (Option.some Jvm.ClassFile.FieldType.int)) ∈ lw_all := lw_g (lw_at lw_m7 26 rfl) rfl
theorem q1573 : (Jvm.Cond.instanceMethod ({ cls := "NineGravesModel", name := "same", desc := "(II)Z" } : Jvm.MethodName)) ∈ lw_all := lw_g (lw_at lw_m7 28 rfl) rfl
theorem q1574 : (Jvm.Cond.selects "NineGravesModel" ({ cls := "NineGravesModel", name := "same", desc := "(II)Z" } : Jvm.MethodName) ({ cls := "NineGravesModel", name := "same", desc := "(II)Z" } : Jvm.MethodName)) ∈ lw_all := lw_g (lw_at lw_m7 29 rfl) rfl
theorem q1575 : (Jvm.Cond.code ({ cls := "NineGravesModel", name := "same", desc := "(II)Z" } : Jvm.MethodName) prog_17_method_81_code (6 : Nat) (Option.some Jvm.ClassFile.FieldType.boolean)) ∈ lw_all := lw_g (lw_at lw_m7 30 rfl) rfl
theorem q1576 : (Jvm.Cond.methodLink "NineGravesModel" (333 : Nat) ({ cls := "NineGravesModel", name := "miles", desc := "(II)I" } : Jvm.MethodName)) ∈ lw_all := lw_g (lw_at lw_m7 31 rfl) rfl
theorem q1577 : (Jvm.Cond.privateMethod ({ cls := "NineGravesModel", name := "miles", desc := "(II)I" } : Jvm.MethodName)) ∈ lw_tbl := lw_at lw_m7 32 rfl
theorem q1578 : (Jvm.Cond.instanceMethod ({ cls := "NineGravesModel", name := "miles", desc := "(II)I" } : Jvm.MethodName)) ∈ lw_all := lw_g (lw_at lw_m7 33 rfl) rfl
theorem q1579 : (Jvm.Cond.code ({ cls := "NineGravesModel", name := "miles", desc := "(II)I" } : Jvm.MethodName) prog_17_method_9_code (3 : Nat) (Option.some Jvm.ClassFile.FieldType.int)) ∈ lw_all := lw_g (lw_at lw_m7 34 rfl) rfl
theorem q1580 : (Jvm.Cond.methodLink "NineGravesModel" (79 : Nat) ({ cls := "NineGravesModel", name := "apart", desc := "(II)I" } : Jvm.MethodName)) ∈ lw_all := lw_g (lw_at lw_m7 35 rfl) rfl
theorem q1581 : (Jvm.Cond.static ({ cls := "NineGravesModel", name := "apart", desc := "(II)I" } : Jvm.MethodName)) ∈ lw_all := lw_g (lw_at lw_m7 36 rfl) rfl
theorem q1582 : (Jvm.Cond.code ({ cls := "NineGravesModel", name := "apart", desc := "(II)I" } : Jvm.MethodName) prog_17_method_8_code (2 : Nat) (Option.some Jvm.ClassFile.FieldType.int)) ∈ lw_all := lw_g (lw_at lw_m7 37 rfl) rfl
theorem q1584 : (Jvm.Cond.instanceMethod ({ cls := "NineGravesModel", name := "best", desc := "(I)I" } : Jvm.MethodName)) ∈ lw_all := lw_g (lw_at lw_m7 39 rfl) rfl
theorem q1585 : (Jvm.Cond.selects "NineGravesModel" ({ cls := "NineGravesModel", name := "best", desc := "(I)I" } : Jvm.MethodName) ({ cls := "NineGravesModel", name := "best", desc := "(I)I" } : Jvm.MethodName)) ∈ lw_all := lw_g (lw_at lw_m7 40 rfl) rfl
theorem q1586 : (Jvm.Cond.code ({ cls := "NineGravesModel", name := "best", desc := "(I)I" } : Jvm.MethodName) prog_17_method_87_code (2 : Nat) (Option.some Jvm.ClassFile.FieldType.int)) ∈ lw_all := lw_g (lw_at lw_m7 41 rfl) rfl
theorem q1587 : (Jvm.Cond.methodLink "NineGravesModel" (352 : Nat) ({ cls := "NineGravesModel", name := "reckon", desc := "()V" } : Jvm.MethodName)) ∈ lw_all := lw_g (lw_at lw_m7 42 rfl) rfl
theorem q1588 : (Jvm.Cond.privateMethod ({ cls := "NineGravesModel", name := "reckon", desc := "()V" } : Jvm.MethodName)) ∈ lw_tbl := lw_at lw_m7 43 rfl
theorem q1589 : (Jvm.Cond.instanceMethod ({ cls := "NineGravesModel", name := "reckon", desc := "()V" } : Jvm.MethodName)) ∈ lw_all := lw_g (lw_at lw_m7 44 rfl) rfl
theorem q1590 : (Jvm.Cond.code ({ cls := "NineGravesModel", name := "reckon", desc := "()V" } : Jvm.MethodName) prog_17_method_85_code (4 : Nat) (Option.none : Option Jvm.ClassFile.FieldType)) ∈ lw_all := lw_g (lw_at lw_m7 45 rfl) rfl
theorem q1591 : (Jvm.Cond.methodLink "NineGravesModel" (336 : Nat) ({ cls := "NineGravesModel", name := "same", desc := "(II)Z" } : Jvm.MethodName)) ∈ lw_all := lw_g (lw_at lw_m7 46 rfl) rfl
theorem q1592 : (Jvm.Cond.methodLink "NineGravesModel" (339 : Nat) ({ cls := "NineGravesModel", name := "reckonOne", desc := "(II)V" } : Jvm.MethodName)) ∈ lw_all := lw_g (lw_at lw_m7 47 rfl) rfl
theorem q1593 : (Jvm.Cond.privateMethod ({ cls := "NineGravesModel", name := "reckonOne", desc := "(II)V" } : Jvm.MethodName)) ∈ lw_tbl := lw_at lw_m7 48 rfl
theorem q1594 : (Jvm.Cond.instanceMethod ({ cls := "NineGravesModel", name := "reckonOne", desc := "(II)V" } : Jvm.MethodName)) ∈ lw_all := lw_g (lw_at lw_m7 49 rfl) rfl
theorem q1595 : (Jvm.Cond.code ({ cls := "NineGravesModel", name := "reckonOne", desc := "(II)V" } : Jvm.MethodName) prog_17_method_86_code (9 : Nat) (Option.none : Option Jvm.ClassFile.FieldType)) ∈ lw_all := lw_g (lw_at lw_m7 50 rfl) rfl
theorem q1596 : (Jvm.Cond.constant "NineGravesModel" (342 : Nat) (1000000 : Int32)) ∈ lw_all := lw_g (lw_at lw_m7 51 rfl) rfl
theorem q1597 : (Jvm.Cond.methodLink "NineGravesModel" (343 : Nat) ({ cls := "NineGravesModel", name := "mayBe", desc := "(III)Z" } : Jvm.MethodName)) ∈ lw_all := lw_g (lw_at lw_m7 52 rfl) rfl
theorem q1598 : (Jvm.Cond.privateMethod ({ cls := "NineGravesModel", name := "mayBe", desc := "(III)Z" } : Jvm.MethodName)) ∈ lw_tbl := lw_at lw_m7 53 rfl
theorem q1599 : (Jvm.Cond.instanceMethod ({ cls := "NineGravesModel", name := "mayBe", desc := "(III)Z" } : Jvm.MethodName)) ∈ lw_all := lw_g (lw_at lw_m7 54 rfl) rfl
theorem q1600 : (Jvm.Cond.code ({ cls := "NineGravesModel", name := "mayBe", desc := "(III)Z" } : Jvm.MethodName) prog_17_method_83_code (4 : Nat) (Option.some Jvm.ClassFile.FieldType.boolean)) ∈ lw_all := lw_g (lw_at lw_m7 55 rfl) rfl
theorem q1601 : (Jvm.Cond.methodLink "NineGravesModel" (346 : Nat) ({ cls := "NineGravesModel", name := "behind", desc := "(III)I" } : Jvm.MethodName)) ∈ lw_all := lw_g (lw_at lw_m7 56 rfl) rfl
theorem q1602 : (Jvm.Cond.privateMethod ({ cls := "NineGravesModel", name := "behind", desc := "(III)I" } : Jvm.MethodName)) ∈ lw_tbl := lw_at lw_m7 57 rfl
theorem q1603 : (Jvm.Cond.instanceMethod ({ cls := "NineGravesModel", name := "behind", desc := "(III)I" } : Jvm.MethodName)) ∈ lw_all := lw_g (lw_at lw_m7 58 rfl) rfl
theorem q1604 : (Jvm.Cond.code ({ cls := "NineGravesModel", name := "behind", desc := "(III)I" } : Jvm.MethodName) prog_17_method_84_code (4 : Nat) (Option.some Jvm.ClassFile.FieldType.int)) ∈ lw_all := lw_g (lw_at lw_m7 59 rfl) rfl
theorem q1605 : (Jvm.Cond.methodLink "NineGravesModel" (349 : Nat) ({ cls := "NineGravesModel", name := "costOf", desc := "(II)I" } : Jvm.MethodName)) ∈ lw_all := lw_g (lw_at lw_m7 60 rfl) rfl
theorem q1606 : (Jvm.Cond.privateMethod ({ cls := "NineGravesModel", name := "costOf", desc := "(II)I" } : Jvm.MethodName)) ∈ lw_tbl := lw_at lw_m7 61 rfl
theorem q1607 : (Jvm.Cond.instanceMethod ({ cls := "NineGravesModel", name := "costOf", desc := "(II)I" } : Jvm.MethodName)) ∈ lw_all := lw_g (lw_at lw_m7 62 rfl) rfl
theorem q1608 : (Jvm.Cond.code ({ cls := "NineGravesModel", name := "costOf", desc := "(II)I" } : Jvm.MethodName) prog_17_method_82_code (3 : Nat) (Option.some Jvm.ClassFile.FieldType.int)) ∈ lw_all := lw_g (lw_at lw_m7 63 rfl) rfl
theorem q1610 : (Jvm.Cond.instanceMethod ({ cls := "NineGravesModel", name := "histories", desc := "()J" } : Jvm.MethodName)) ∈ lw_all := lw_g (lw_at lw_m7 65 rfl) rfl
theorem q1611 : (Jvm.Cond.selects "NineGravesModel" ({ cls := "NineGravesModel", name := "histories", desc := "()J" } : Jvm.MethodName) ({ cls := "NineGravesModel", name := "histories", desc := "()J" } : Jvm.MethodName)) ∈ lw_all := lw_g (lw_at lw_m7 66 rfl) rfl
theorem q1612 : (Jvm.Cond.code ({ cls := "NineGravesModel", name := "histories", desc := "()J" } : Jvm.MethodName) prog_17_method_88_code (1 : Nat) (Option.some Jvm.ClassFile.FieldType.long)) ∈ lw_all := lw_g (lw_at lw_m7 67 rfl) rfl
theorem q1614 : (Jvm.Cond.instanceMethod ({ cls := "NineGravesModel", name := "led", desc := "(I)I" } : Jvm.MethodName)) ∈ lw_all := lw_g (lw_at lw_m7 69 rfl) rfl
theorem q1615 : (Jvm.Cond.selects "NineGravesModel" ({ cls := "NineGravesModel", name := "led", desc := "(I)I" } : Jvm.MethodName) ({ cls := "NineGravesModel", name := "led", desc := "(I)I" } : Jvm.MethodName)) ∈ lw_all := lw_g (lw_at lw_m7 70 rfl) rfl
theorem q1616 : (Jvm.Cond.code ({ cls := "NineGravesModel", name := "led", desc := "(I)I" } : Jvm.MethodName) prog_17_method_89_code (5 : Nat) (Option.some Jvm.ClassFile.FieldType.int)) ∈ lw_all := lw_g (lw_at lw_m7 71 rfl) rfl
theorem q1618 : (Jvm.Cond.instanceMethod ({ cls := "NineGravesModel", name := "chance", desc := "(IIII)J" } : Jvm.MethodName)) ∈ lw_all := lw_g (lw_at lw_m7 73 rfl) rfl
theorem q1619 : (Jvm.Cond.selects "NineGravesModel" ({ cls := "NineGravesModel", name := "chance", desc := "(IIII)J" } : Jvm.MethodName) ({ cls := "NineGravesModel", name := "chance", desc := "(IIII)J" } : Jvm.MethodName)) ∈ lw_all := lw_g (lw_at lw_m7 74 rfl) rfl
theorem q1620 : (Jvm.Cond.code ({ cls := "NineGravesModel", name := "chance", desc := "(IIII)J" } : Jvm.MethodName) prog_17_method_93_code (9 : Nat) (Option.some Jvm.ClassFile.FieldType.long)) ∈ lw_all := lw_g (lw_at lw_m7 75 rfl) rfl
theorem q1621 : (Jvm.Cond.constantLong "NineGravesModel" (355 : Nat) (-1 : Int64)) ∈ lw_all := lw_g (lw_at lw_m7 76 rfl) rfl
theorem q1622 : (Jvm.Cond.methodLink "NineGravesModel" (357 : Nat) ({ cls := "NineGravesModel", name := "choices", desc := "(II)J" } : Jvm.MethodName)) ∈ lw_all := lw_g (lw_at lw_m7 77 rfl) rfl
theorem q1623 : (Jvm.Cond.static ({ cls := "NineGravesModel", name := "choices", desc := "(II)J" } : Jvm.MethodName)) ∈ lw_all := lw_g (lw_at lw_m7 78 rfl) rfl
theorem q1624 : (Jvm.Cond.code ({ cls := "NineGravesModel", name := "choices", desc := "(II)J" } : Jvm.MethodName) prog_17_method_92_code (5 : Nat) (Option.some Jvm.ClassFile.FieldType.long)) ∈ lw_all := lw_g (lw_at lw_m7 79 rfl) rfl
theorem q1625 : (Jvm.Cond.methodLink "NineGravesModel" (361 : Nat) ({ cls := "NineGravesModel", name := "power", desc := "(II)J" } : Jvm.MethodName)) ∈ lw_all := lw_g (lw_at lw_m7 80 rfl) rfl
theorem q1626 : (Jvm.Cond.static ({ cls := "NineGravesModel", name := "power", desc := "(II)J" } : Jvm.MethodName)) ∈ lw_all := lw_g (lw_at lw_m7 81 rfl) rfl
theorem q1627 : (Jvm.Cond.code ({ cls := "NineGravesModel", name := "power", desc := "(II)J" } : Jvm.MethodName) prog_17_method_90_code (5 : Nat) (Option.some Jvm.ClassFile.FieldType.long)) ∈ lw_all := lw_g (lw_at lw_m7 82 rfl) rfl
theorem q1628 : (Jvm.Cond.methodLink "NineGravesModel" (364 : Nat) ({ cls := "NineGravesModel", name := "common", desc := "(JJ)J" } : Jvm.MethodName)) ∈ lw_all := lw_g (lw_at lw_m7 83 rfl) rfl
theorem q1629 : (Jvm.Cond.static ({ cls := "NineGravesModel", name := "common", desc := "(JJ)J" } : Jvm.MethodName)) ∈ lw_all := lw_g (lw_at lw_m7 84 rfl) rfl
theorem q1630 : (Jvm.Cond.code ({ cls := "NineGravesModel", name := "common", desc := "(JJ)J" } : Jvm.MethodName) prog_17_method_91_code (10 : Nat) (Option.some Jvm.ClassFile.FieldType.long)) ∈ lw_all := lw_g (lw_at lw_m7 85 rfl) rfl
theorem q1632 : (Jvm.Cond.instanceMethod ({ cls := "NineGravesModel", name := "round", desc := "(II)I" } : Jvm.MethodName)) ∈ lw_all := lw_g (lw_at lw_m7 87 rfl) rfl
theorem q1633 : (Jvm.Cond.selects "NineGravesModel" ({ cls := "NineGravesModel", name := "round", desc := "(II)I" } : Jvm.MethodName) ({ cls := "NineGravesModel", name := "round", desc := "(II)I" } : Jvm.MethodName)) ∈ lw_all := lw_g (lw_at lw_m7 88 rfl) rfl
theorem q1634 : (Jvm.Cond.code ({ cls := "NineGravesModel", name := "round", desc := "(II)I" } : Jvm.MethodName) prog_17_method_97_code (8 : Nat) (Option.some Jvm.ClassFile.FieldType.int)) ∈ lw_all := lw_g (lw_at lw_m7 89 rfl) rfl
theorem q1635 : (Jvm.Cond.methodLink "NineGravesModel" (371 : Nat) ({ cls := "NineGravesModel", name := "milesOf", desc := "(I)I" } : Jvm.MethodName)) ∈ lw_all := lw_g (lw_at lw_m7 90 rfl) rfl
theorem q1636 : (Jvm.Cond.privateMethod ({ cls := "NineGravesModel", name := "milesOf", desc := "(I)I" } : Jvm.MethodName)) ∈ lw_tbl := lw_at lw_m7 91 rfl
theorem q1637 : (Jvm.Cond.instanceMethod ({ cls := "NineGravesModel", name := "milesOf", desc := "(I)I" } : Jvm.MethodName)) ∈ lw_all := lw_g (lw_at lw_m7 92 rfl) rfl
theorem q1638 : (Jvm.Cond.code ({ cls := "NineGravesModel", name := "milesOf", desc := "(I)I" } : Jvm.MethodName) prog_17_method_94_code (4 : Nat) (Option.some Jvm.ClassFile.FieldType.int)) ∈ lw_all := lw_g (lw_at lw_m7 93 rfl) rfl
theorem q1639 : (Jvm.Cond.methodLink "NineGravesModel" (374 : Nat) ({ cls := "NineGravesModel", name := "nextOrder", desc := "(I)Z" } : Jvm.MethodName)) ∈ lw_all := lw_g (lw_at lw_m7 94 rfl) rfl
theorem q1640 : (Jvm.Cond.privateMethod ({ cls := "NineGravesModel", name := "nextOrder", desc := "(I)Z" } : Jvm.MethodName)) ∈ lw_tbl := lw_at lw_m7 95 rfl
theorem q1641 : (Jvm.Cond.instanceMethod ({ cls := "NineGravesModel", name := "nextOrder", desc := "(I)Z" } : Jvm.MethodName)) ∈ lw_all := lw_g (lw_at lw_m7 96 rfl) rfl
theorem q1642 : (Jvm.Cond.code ({ cls := "NineGravesModel", name := "nextOrder", desc := "(I)Z" } : Jvm.MethodName) prog_17_method_95_code (6 : Nat) (Option.some Jvm.ClassFile.FieldType.boolean)) ∈ lw_all := lw_g (lw_at lw_m7 97 rfl) rfl
theorem q1643 : (Jvm.Cond.methodLink "NineGravesModel" (368 : Nat) ({ cls := "NineGravesModel", name := "exchange", desc := "(II)V" } : Jvm.MethodName)) ∈ lw_all := lw_g (lw_at lw_m7 98 rfl) rfl
theorem q1644 : (Jvm.Cond.privateMethod ({ cls := "NineGravesModel", name := "exchange", desc := "(II)V" } : Jvm.MethodName)) ∈ lw_tbl := lw_at lw_m7 99 rfl
theorem q1645 : (Jvm.Cond.instanceMethod ({ cls := "NineGravesModel", name := "exchange", desc := "(II)V" } : Jvm.MethodName)) ∈ lw_all := lw_g (lw_at lw_m7 100 rfl) rfl
theorem q1646 : (Jvm.Cond.code ({ cls := "NineGravesModel", name := "exchange", desc := "(II)V" } : Jvm.MethodName) prog_17_method_96_code (4 : Nat) (Option.none : Option Jvm.ClassFile.FieldType)) ∈ lw_all := lw_g (lw_at lw_m7 101 rfl) rfl
theorem q1648 : (Jvm.Cond.instanceMethod ({ cls := "NineGravesModel", name := "pilgrims", desc := "(IIII)I" } : Jvm.MethodName)) ∈ lw_all := lw_g (lw_at lw_m7 103 rfl) rfl
theorem q1649 : (Jvm.Cond.selects "NineGravesModel" ({ cls := "NineGravesModel", name := "pilgrims", desc := "(IIII)I" } : Jvm.MethodName) ({ cls := "NineGravesModel", name := "pilgrims", desc := "(IIII)I" } : Jvm.MethodName)) ∈ lw_all := lw_g (lw_at lw_m7 104 rfl) rfl
theorem q1650 : (Jvm.Cond.code ({ cls := "NineGravesModel", name := "pilgrims", desc := "(IIII)I" } : Jvm.MethodName) prog_17_method_100_code (8 : Nat) (Option.some Jvm.ClassFile.FieldType.int)) ∈ lw_all := lw_g (lw_at lw_m7 105 rfl) rfl
theorem q1651 : (Jvm.Cond.methodLink "NineGravesModel" (386 : Nat) ({ cls := "NineGravesModel", name := "draw", desc := "(I)I" } : Jvm.MethodName)) ∈ lw_all := lw_g (lw_at lw_m7 106 rfl) rfl
theorem q1652 : (Jvm.Cond.privateMethod ({ cls := "NineGravesModel", name := "draw", desc := "(I)I" } : Jvm.MethodName)) ∈ lw_tbl := lw_at lw_m7 107 rfl
theorem q1653 : (Jvm.Cond.instanceMethod ({ cls := "NineGravesModel", name := "draw", desc := "(I)I" } : Jvm.MethodName)) ∈ lw_all := lw_g (lw_at lw_m7 108 rfl) rfl
theorem q1654 : (Jvm.Cond.code ({ cls := "NineGravesModel", name := "draw", desc := "(I)I" } : Jvm.MethodName) prog_17_method_98_code (3 : Nat) (Option.some Jvm.ClassFile.FieldType.int)) ∈ lw_all := lw_g (lw_at lw_m7 109 rfl) rfl
theorem q1655 : (Jvm.Cond.constantLong "NineGravesModel" (380 : Nat) (173 : Int64)) ∈ lw_all := lw_g (lw_at lw_m7 110 rfl) rfl
theorem q1656 : (Jvm.Cond.constantLong "NineGravesModel" (382 : Nat) (41 : Int64)) ∈ lw_all := lw_g (lw_at lw_m7 111 rfl) rfl
theorem q1657 : (Jvm.Cond.constantLong "NineGravesModel" (384 : Nat) (30103 : Int64)) ∈ lw_all := lw_g (lw_at lw_m7 112 rfl) rfl
theorem q1658 : (Jvm.Cond.methodLink "NineGravesModel" (389 : Nat) ({ cls := "NineGravesModel", name := "isHolyTown", desc := "(I)Z" } : Jvm.MethodName)) ∈ lw_all := lw_g (lw_at lw_m7 113 rfl) rfl
theorem q1659 : (Jvm.Cond.privateMethod ({ cls := "NineGravesModel", name := "isHolyTown", desc := "(I)Z" } : Jvm.MethodName)) ∈ lw_tbl := lw_at lw_m7 114 rfl
theorem q1660 : (Jvm.Cond.instanceMethod ({ cls := "NineGravesModel", name := "isHolyTown", desc := "(I)Z" } : Jvm.MethodName)) ∈ lw_all := lw_g (lw_at lw_m7 115 rfl) rfl
theorem q1661 : (Jvm.Cond.code ({ cls := "NineGravesModel", name := "isHolyTown", desc := "(I)Z" } : Jvm.MethodName) prog_17_method_99_code (3 : Nat) (Option.some Jvm.ClassFile.FieldType.boolean)) ∈ lw_all := lw_g (lw_at lw_m7 116 rfl) rfl
theorem q1663 : (Jvm.Cond.instanceMethod ({ cls := "NineGravesModel", name := "image", desc := "()I" } : Jvm.MethodName)) ∈ lw_all := lw_g (lw_at lw_m7 118 rfl) rfl
theorem q1664 : (Jvm.Cond.selects "NineGravesModel" ({ cls := "NineGravesModel", name := "image", desc := "()I" } : Jvm.MethodName) ({ cls := "NineGravesModel", name := "image", desc := "()I" } : Jvm.MethodName)) ∈ lw_all := lw_g (lw_at lw_m7 119 rfl) rfl
theorem q1665 : (Jvm.Cond.code ({ cls := "NineGravesModel", name := "image", desc := "()I" } : Jvm.MethodName) prog_17_method_101_code (1 : Nat) (Option.some Jvm.ClassFile.FieldType.int)) ∈ lw_all := lw_g (lw_at lw_m7 120 rfl) rfl
theorem q1667 : (Jvm.Cond.instanceMethod ({ cls := "NineGravesModel", name := "back", desc := "()I" } : Jvm.MethodName)) ∈ lw_all := lw_g (lw_at lw_m7 122 rfl) rfl
theorem q1668 : (Jvm.Cond.selects "NineGravesModel" ({ cls := "NineGravesModel", name := "back", desc := "()I" } : Jvm.MethodName) ({ cls := "NineGravesModel", name := "back", desc := "()I" } : Jvm.MethodName)) ∈ lw_all := lw_g (lw_at lw_m7 123 rfl) rfl
theorem q1669 : (Jvm.Cond.code ({ cls := "NineGravesModel", name := "back", desc := "()I" } : Jvm.MethodName) prog_17_method_102_code (1 : Nat) (Option.some Jvm.ClassFile.FieldType.int)) ∈ lw_all := lw_g (lw_at lw_m7 124 rfl) rfl
theorem q1671 : (Jvm.Cond.instanceMethod ({ cls := "NineGravesModel", name := "about", desc := "(I)I" } : Jvm.MethodName)) ∈ lw_all := lw_g (lw_at lw_m7 126 rfl) rfl
theorem q1672 : (Jvm.Cond.selects "NineGravesModel" ({ cls := "NineGravesModel", name := "about", desc := "(I)I" } : Jvm.MethodName) ({ cls := "NineGravesModel", name := "about", desc := "(I)I" } : Jvm.MethodName)) ∈ lw_all := lw_g (lw_at lw_m7 127 rfl) rfl
theorem q1673 : (Jvm.Cond.code ({ cls := "NineGravesModel", name := "about", desc := "(I)I" } : Jvm.MethodName) prog_17_method_104_code (2 : Nat) (Option.some Jvm.ClassFile.FieldType.int)) ∈ lw_all := lw_g (lw_at lw_m7 128 rfl) rfl
theorem q1674 : (Jvm.Cond.methodLink "NineGravesModel" (392 : Nat) ({ cls := "NineGravesModel", name := "bonesAt", desc := "(I)I" } : Jvm.MethodName)) ∈ lw_all := lw_g (lw_at lw_m7 129 rfl) rfl
theorem q1675 : (Jvm.Cond.privateMethod ({ cls := "NineGravesModel", name := "bonesAt", desc := "(I)I" } : Jvm.MethodName)) ∈ lw_tbl := lw_at lw_m7 130 rfl
theorem q1676 : (Jvm.Cond.instanceMethod ({ cls := "NineGravesModel", name := "bonesAt", desc := "(I)I" } : Jvm.MethodName)) ∈ lw_all := lw_g (lw_at lw_m7 131 rfl) rfl
theorem q1677 : (Jvm.Cond.code ({ cls := "NineGravesModel", name := "bonesAt", desc := "(I)I" } : Jvm.MethodName) prog_17_method_103_code (4 : Nat) (Option.some Jvm.ClassFile.FieldType.int)) ∈ lw_all := lw_g (lw_at lw_m7 132 rfl) rfl
theorem q1684 : (Jvm.Cond.castable "NineGravesModel" "java/lang/Object") ∈ lw_tbl := lw_at lw_m7 139 rfl
theorem in_X2 : ∀ w ∈ wsX20, w ∈ lw_all := lw_in wsX20 [1197, 1199, 1201, 1203, 1205, 1207, 1209, 1211, 1213, 1215, 1217, 1219, 1221, 1223, 1225, 1227, 1229, 1231, 1233, 1235, 1237, 1239, 1241, 1243, 1245, 1247, 1249, 1251, 1253, 1255, 1257, 1259, 1261, 1263, 1265, 1267] (by decide +kernel) (by decide +kernel)
/-! NineGraves$Tokens -/
set_option maxRecDepth 100000
def RX3 : String := "NineGraves$Tokens"
def TX3 : u_T := fun k => match k with
  | 0 => ("NineGraves$Tokens", "text", "[B", true)
  | 1 => ("NineGraves$Tokens", "size", "I", true)
  | 2 => ("NineGraves$Tokens", "at", "I", false)
  | 3 => ("NineGraves$Tokens", "token", "I", false)
  | 4 => ("NineGraves$Tokens", "sort", "I", false)
  | 5 => ("NineGraves$Tokens", "number", "I", false)
  | 6 => ("NineGraves$Tokens", "open", "I", false)
  | _ => ("NineGraves$Tokens", "kind", "I", false)
def tyX3 : Nat → FieldType := fun k => match k with
  | 0 => .array .byte
  | 1 => .int
  | 2 => .int
  | 3 => .int
  | 4 => .int
  | 5 => .int
  | 6 => .int
  | _ => .int
abbrev wsX30 : List Cond := u_ws RX3 TX3 8
theorem nmX3 : ∀ a, a < 8 → ∀ b, b < 8 → a ≠ b → (TX3 a).2.1 ≠ (TX3 b).2.1 := by decide +kernel
theorem tyX3_ok : ∀ k, k < 8 → parseFieldDescriptor (TX3 k).2.2.1 = some (tyX3 k) := by decide +kernel
abbrev cX3_init : ByteArray := prog_14_method_1_code
def yX3_init : MethodName := ⟨RX3, "<init>", "([BI)V"⟩
abbrev cX3_read : ByteArray := prog_14_method_10_code
def yX3_read : MethodName := ⟨RX3, "read", "()LNineGraves$Text;"⟩
abbrev cX3_next : ByteArray := prog_14_method_4_code
def yX3_next : MethodName := ⟨RX3, "next", "()V"⟩
abbrev cX3_isLetter : ByteArray := prog_14_method_2_code
def yX3_isLetter : MethodName := ⟨RX3, "isLetter", "(I)Z"⟩
abbrev cX3_isWord : ByteArray := prog_14_method_5_code
def yX3_isWord : MethodName := ⟨RX3, "isWord", "(Ljava/lang/String;)Z"⟩
abbrev cX3_isDigit : ByteArray := prog_14_method_3_code
def yX3_isDigit : MethodName := ⟨RX3, "isDigit", "(I)Z"⟩
abbrev cX3_wrong : ByteArray := prog_14_method_6_code
def yX3_wrong : MethodName := ⟨RX3, "wrong", "(I)LNineGraves$Wrong;"⟩
abbrev cX3_clause : ByteArray := prog_14_method_11_code
def yX3_clause : MethodName := ⟨RX3, "clause", "(LNineGraves$Text;)V"⟩
abbrev cX3_sum : ByteArray := prog_14_method_17_code
def yX3_sum : MethodName := ⟨RX3, "sum", "()LNineGraves$Sum;"⟩
abbrev cX3_product : ByteArray := prog_14_method_18_code
def yX3_product : MethodName := ⟨RX3, "product", "()LNineGraves$Sum;"⟩
abbrev cX3_one : ByteArray := prog_14_method_19_code
def yX3_one : MethodName := ⟨RX3, "one", "()LNineGraves$Sum;"⟩
abbrev cX3_number : ByteArray := prog_14_method_8_code
def yX3_number : MethodName := ⟨RX3, "number", "(II)I"⟩
abbrev cX3_opens : ByteArray := prog_14_method_9_code
def yX3_opens : MethodName := ⟨RX3, "opens", "()V"⟩
abbrev cX3_want : ByteArray := prog_14_method_7_code
def yX3_want : MethodName := ⟨RX3, "want", "(I)V"⟩
abbrev cX3_either : ByteArray := prog_14_method_14_code
def yX3_either : MethodName := ⟨RX3, "either", "()LNineGraves$Asked;"⟩
abbrev cX3_both : ByteArray := prog_14_method_15_code
def yX3_both : MethodName := ⟨RX3, "both", "()LNineGraves$Asked;"⟩
abbrev cX3_ask : ByteArray := prog_14_method_16_code
def yX3_ask : MethodName := ⟨RX3, "ask", "()LNineGraves$Asked;"⟩
abbrev cX3_kind : ByteArray := prog_14_method_12_code
def yX3_kind : MethodName := ⟨RX3, "kind", "(LNineGraves$Text;)V"⟩
abbrev cX3_doing : ByteArray := prog_14_method_13_code
def yX3_doing : MethodName := ⟨RX3, "doing", "(I)LNineGraves$Doing;"⟩
theorem q110 : (Jvm.Cond.initialized "NineGraves$Tokens") ∈ lw_all := lw_g (lw_at lw_m1 5 rfl) rfl
theorem q325 : (Jvm.Cond.instantiable "NineGraves$Tokens" (8 : Nat)) ∈ lw_all := lw_g (lw_at lw_m1 220 rfl) rfl
theorem q327 : (Jvm.Cond.instanceMethod ({ cls := "NineGraves$Tokens", name := "<init>", desc := "([BI)V" } : Jvm.MethodName)) ∈ lw_all := lw_g (lw_at lw_m1 222 rfl) rfl
theorem q328 : (Jvm.Cond.code ({ cls := "NineGraves$Tokens", name := "<init>", desc := "([BI)V" } : Jvm.MethodName) prog_14_method_1_code (3 : Nat) (Option.none : Option Jvm.ClassFile.FieldType)) ∈ lw_all := lw_g (lw_at lw_m1 223 rfl) rfl
theorem q329 : (Jvm.Cond.methodLink "NineGraves$Tokens" (3 : Nat) ({ cls := "java/lang/Object", name := "<init>", desc := "()V" } : Jvm.MethodName)) ∈ lw_all := lw_g (lw_at lw_m1 224 rfl) rfl
theorem q330 : (Jvm.Cond.fieldLink "NineGraves$Tokens" (9 : Nat) "NineGraves$Tokens" "text" "[B") ∈ lw_all := lw_g (lw_at lw_m1 225 rfl) rfl
theorem q331 : (Jvm.Cond.fieldLink "NineGraves$Tokens" (15 : Nat) "NineGraves$Tokens" "size" "I") ∈ lw_all := lw_g (lw_at lw_m1 226 rfl) rfl
theorem q332 : (Jvm.Cond.fieldLink "NineGraves$Tokens" (19 : Nat) "NineGraves$Tokens" "at" "I") ∈ lw_all := lw_g (lw_at lw_m1 227 rfl) rfl
theorem q333 : (Jvm.Cond.fieldLink "NineGraves$Tokens" (22 : Nat) "NineGraves$Tokens" "token" "I") ∈ lw_all := lw_g (lw_at lw_m1 228 rfl) rfl
theorem q334 : (Jvm.Cond.fieldLink "NineGraves$Tokens" (25 : Nat) "NineGraves$Tokens" "sort" "I") ∈ lw_all := lw_g (lw_at lw_m1 229 rfl) rfl
theorem q335 : (Jvm.Cond.fieldLink "NineGraves$Tokens" (43 : Nat) "NineGraves$Tokens" "number" "I") ∈ lw_all := lw_g (lw_at lw_m1 230 rfl) rfl
theorem q336 : (Jvm.Cond.fieldLink "NineGraves$Tokens" (77 : Nat) "NineGraves$Tokens" "open" "I") ∈ lw_all := lw_g (lw_at lw_m1 231 rfl) rfl
theorem q337 : (Jvm.Cond.fieldLink "NineGraves$Tokens" (83 : Nat) "NineGraves$Tokens" "kind" "I") ∈ lw_all := lw_g (lw_at lw_m1 232 rfl) rfl
theorem q338 : (Jvm.Cond.laysFinal "NineGraves$Tokens" "NineGraves$Tokens" "text" "[B") ∈ lw_all := lw_g (lw_at lw_m1 233 rfl) rfl
theorem q339 : (Jvm.Cond.soleField "NineGraves$Tokens" "text") ∈ lw_all := lw_g (lw_at lw_m1 234 rfl) rfl
theorem q340 : (Jvm.Cond.laysFinal "NineGraves$Tokens" "NineGraves$Tokens" "size" "I") ∈ lw_all := lw_g (lw_at lw_m1 235 rfl) rfl
theorem q341 : (Jvm.Cond.soleField "NineGraves$Tokens" "size") ∈ lw_all := lw_g (lw_at lw_m1 236 rfl) rfl
theorem q342 : (Jvm.Cond.lays "NineGraves$Tokens" "NineGraves$Tokens" "at" "I") ∈ lw_all := lw_g (lw_at lw_m1 237 rfl) rfl
theorem q343 : (Jvm.Cond.soleField "NineGraves$Tokens" "at") ∈ lw_all := lw_g (lw_at lw_m1 238 rfl) rfl
theorem q344 : (Jvm.Cond.lays "NineGraves$Tokens" "NineGraves$Tokens" "token" "I") ∈ lw_all := lw_g (lw_at lw_m1 239 rfl) rfl
theorem q345 : (Jvm.Cond.soleField "NineGraves$Tokens" "token") ∈ lw_all := lw_g (lw_at lw_m2 0 rfl) rfl
theorem q346 : (Jvm.Cond.lays "NineGraves$Tokens" "NineGraves$Tokens" "sort" "I") ∈ lw_all := lw_g (lw_at lw_m2 1 rfl) rfl
theorem q347 : (Jvm.Cond.soleField "NineGraves$Tokens" "sort") ∈ lw_all := lw_g (lw_at lw_m2 2 rfl) rfl
theorem q348 : (Jvm.Cond.lays "NineGraves$Tokens" "NineGraves$Tokens" "number" "I") ∈ lw_all := lw_g (lw_at lw_m2 3 rfl) rfl
theorem q349 : (Jvm.Cond.soleField "NineGraves$Tokens" "number") ∈ lw_all := lw_g (lw_at lw_m2 4 rfl) rfl
theorem q350 : (Jvm.Cond.lays "NineGraves$Tokens" "NineGraves$Tokens" "open" "I") ∈ lw_all := lw_g (lw_at lw_m2 5 rfl) rfl
theorem q351 : (Jvm.Cond.soleField "NineGraves$Tokens" "open") ∈ lw_all := lw_g (lw_at lw_m2 6 rfl) rfl
theorem q352 : (Jvm.Cond.lays "NineGraves$Tokens" "NineGraves$Tokens" "kind" "I") ∈ lw_all := lw_g (lw_at lw_m2 7 rfl) rfl
theorem q353 : (Jvm.Cond.soleField "NineGraves$Tokens" "kind") ∈ lw_all := lw_g (lw_at lw_m2 8 rfl) rfl
theorem q354 : (Jvm.Cond.superclass "NineGraves$Tokens" "java/lang/Object") ∈ lw_all := lw_g (lw_at lw_m2 9 rfl) rfl
theorem q356 : (Jvm.Cond.instanceMethod ({ cls := "NineGraves$Tokens", name := "read", desc := "()LNineGraves$Text;" } : Jvm.MethodName)) ∈ lw_all := lw_g (lw_at lw_m2 11 rfl) rfl
theorem q357 : (Jvm.Cond.selects "NineGraves$Tokens" ({ cls := "NineGraves$Tokens", name := "read", desc := "()LNineGraves$Text;" } : Jvm.MethodName) ({ cls := "NineGraves$Tokens", name := "read", desc := "()LNineGraves$Text;" } : Jvm.MethodName)) ∈ lw_all := lw_g (lw_at lw_m2 12 rfl) rfl
theorem q358 : (Jvm.Cond.code ({ cls := "NineGraves$Tokens", name := "read", desc := "()LNineGraves$Text;" } : Jvm.MethodName) prog_14_method_10_code (2 : Nat) (Option.some (Jvm.ClassFile.FieldType.object "NineGraves$Text"))) ∈ lw_all := lw_g (lw_at lw_m2 13 rfl) rfl
theorem q359 : (Jvm.Cond.classLink "NineGraves$Tokens" (80 : Nat) "NineGraves$Text") ∈ lw_all := lw_g (lw_at lw_m2 14 rfl) rfl
theorem q361 : (Jvm.Cond.methodLinkNest "NineGraves$Tokens" (82 : Nat) ({ cls := "NineGraves$Text", name := "<init>", desc := "()V" } : Jvm.MethodName) "NineGraves") ∈ lw_tbl := lw_at lw_m2 16 rfl
theorem q391 : (Jvm.Cond.fieldLinkNest "NineGraves$Tokens" (86 : Nat) "NineGraves$Text" "worn" "LNineGraves$Sum;" "NineGraves") ∈ lw_tbl := lw_at lw_m2 46 rfl
theorem q393 : (Jvm.Cond.fieldLinkNest "NineGraves$Tokens" (90 : Nat) "NineGraves$Text" "holy" "LNineGraves$Asked;" "NineGraves") ∈ lw_tbl := lw_at lw_m2 48 rfl
theorem q395 : (Jvm.Cond.fieldLinkNest "NineGraves$Tokens" (94 : Nat) "NineGraves$Text" "unlike" "LNineGraves$Asked;" "NineGraves") ∈ lw_tbl := lw_at lw_m2 50 rfl
theorem q398 : (Jvm.Cond.fieldLinkNest "NineGraves$Tokens" (132 : Nat) "NineGraves$Text" "many" "[I" "NineGraves") ∈ lw_tbl := lw_at lw_m2 53 rfl
theorem q401 : (Jvm.Cond.fieldLinkNest "NineGraves$Tokens" (118 : Nat) "NineGraves$Text" "doings" "Ljava/util/ArrayList;" "NineGraves") ∈ lw_tbl := lw_at lw_m2 56 rfl
theorem q403 : (Jvm.Cond.fieldLinkNest "NineGraves$Tokens" (97 : Nat) "NineGraves$Text" "clauses" "I" "NineGraves") ∈ lw_tbl := lw_at lw_m2 58 rfl
theorem q417 : (Jvm.Cond.methodLink "NineGraves$Tokens" (74 : Nat) ({ cls := "NineGraves$Tokens", name := "next", desc := "()V" } : Jvm.MethodName)) ∈ lw_all := lw_g (lw_at lw_m2 72 rfl) rfl
theorem q418 : (Jvm.Cond.privateMethod ({ cls := "NineGraves$Tokens", name := "next", desc := "()V" } : Jvm.MethodName)) ∈ lw_tbl := lw_at lw_m2 73 rfl
theorem q419 : (Jvm.Cond.instanceMethod ({ cls := "NineGraves$Tokens", name := "next", desc := "()V" } : Jvm.MethodName)) ∈ lw_all := lw_g (lw_at lw_m2 74 rfl) rfl
theorem q420 : (Jvm.Cond.code ({ cls := "NineGraves$Tokens", name := "next", desc := "()V" } : Jvm.MethodName) prog_14_method_4_code (3 : Nat) (Option.none : Option Jvm.ClassFile.FieldType)) ∈ lw_all := lw_g (lw_at lw_m2 75 rfl) rfl
theorem q421 : (Jvm.Cond.methodLink "NineGraves$Tokens" (28 : Nat) ({ cls := "NineGraves$Tokens", name := "isLetter", desc := "(I)Z" } : Jvm.MethodName)) ∈ lw_all := lw_g (lw_at lw_m2 76 rfl) rfl
theorem q422 : (Jvm.Cond.static ({ cls := "NineGraves$Tokens", name := "isLetter", desc := "(I)Z" } : Jvm.MethodName)) ∈ lw_all := lw_g (lw_at lw_m2 77 rfl) rfl
theorem q423 : (Jvm.Cond.code ({ cls := "NineGraves$Tokens", name := "isLetter", desc := "(I)Z" } : Jvm.MethodName) prog_14_method_2_code (1 : Nat) (Option.some Jvm.ClassFile.FieldType.boolean)) ∈ lw_all := lw_g (lw_at lw_m2 78 rfl) rfl
theorem q424 : (Jvm.Cond.fieldLink "NineGraves$Tokens" (32 : Nat) "NineGraves$Tokens" "WORDS" "[Ljava/lang/String;") ∈ lw_all := lw_g (lw_at lw_m2 79 rfl) rfl
theorem q425 : (Jvm.Cond.laysStatic "NineGraves$Tokens" "WORDS" "[Ljava/lang/String;") ∈ lw_tbl := lw_at lw_m2 80 rfl
theorem q426 : (Jvm.Cond.methodLink "NineGraves$Tokens" (36 : Nat) ({ cls := "NineGraves$Tokens", name := "isWord", desc := "(Ljava/lang/String;)Z" } : Jvm.MethodName)) ∈ lw_all := lw_g (lw_at lw_m2 81 rfl) rfl
theorem q427 : (Jvm.Cond.privateMethod ({ cls := "NineGraves$Tokens", name := "isWord", desc := "(Ljava/lang/String;)Z" } : Jvm.MethodName)) ∈ lw_tbl := lw_at lw_m2 82 rfl
theorem q428 : (Jvm.Cond.instanceMethod ({ cls := "NineGraves$Tokens", name := "isWord", desc := "(Ljava/lang/String;)Z" } : Jvm.MethodName)) ∈ lw_all := lw_g (lw_at lw_m2 83 rfl) rfl
theorem q429 : (Jvm.Cond.code ({ cls := "NineGraves$Tokens", name := "isWord", desc := "(Ljava/lang/String;)Z" } : Jvm.MethodName) prog_14_method_5_code (3 : Nat) (Option.some Jvm.ClassFile.FieldType.boolean)) ∈ lw_all := lw_g (lw_at lw_m2 84 rfl) rfl
theorem q430 : (Jvm.Cond.methodLink "NineGraves$Tokens" (55 : Nat) ({ cls := "java/lang/String", name := "length", desc := "()I" } : Jvm.MethodName)) ∈ lw_all := lw_g (lw_at lw_m2 85 rfl) rfl
theorem q440 : (Jvm.Cond.methodLink "NineGraves$Tokens" (61 : Nat) ({ cls := "java/lang/String", name := "charAt", desc := "(I)C" } : Jvm.MethodName)) ∈ lw_all := lw_g (lw_at lw_m2 95 rfl) rfl
theorem q478 : (Jvm.Cond.methodLink "NineGraves$Tokens" (40 : Nat) ({ cls := "NineGraves$Tokens", name := "isDigit", desc := "(I)Z" } : Jvm.MethodName)) ∈ lw_all := lw_g (lw_at lw_m2 133 rfl) rfl
theorem q479 : (Jvm.Cond.static ({ cls := "NineGraves$Tokens", name := "isDigit", desc := "(I)Z" } : Jvm.MethodName)) ∈ lw_all := lw_g (lw_at lw_m2 134 rfl) rfl
theorem q480 : (Jvm.Cond.code ({ cls := "NineGraves$Tokens", name := "isDigit", desc := "(I)Z" } : Jvm.MethodName) prog_14_method_3_code (1 : Nat) (Option.some Jvm.ClassFile.FieldType.boolean)) ∈ lw_all := lw_g (lw_at lw_m2 135 rfl) rfl
theorem q481 : (Jvm.Cond.constant "NineGraves$Tokens" (46 : Nat) (99999 : Int32)) ∈ lw_all := lw_g (lw_at lw_m2 136 rfl) rfl
theorem q482 : (Jvm.Cond.methodLink "NineGraves$Tokens" (47 : Nat) ({ cls := "java/lang/Math", name := "min", desc := "(II)I" } : Jvm.MethodName)) ∈ lw_all := lw_g (lw_at lw_m2 137 rfl) rfl
theorem q485 : (Jvm.Cond.stringRef "NineGraves$Tokens" (53 : Nat) "<>=#+-*/();") ∈ lw_tbl := lw_at lw_m2 140 rfl
theorem q486 : (Jvm.Cond.methodLink "NineGraves$Tokens" (70 : Nat) ({ cls := "NineGraves$Tokens", name := "wrong", desc := "(I)LNineGraves$Wrong;" } : Jvm.MethodName)) ∈ lw_all := lw_g (lw_at lw_m2 141 rfl) rfl
theorem q487 : (Jvm.Cond.privateMethod ({ cls := "NineGraves$Tokens", name := "wrong", desc := "(I)LNineGraves$Wrong;" } : Jvm.MethodName)) ∈ lw_tbl := lw_at lw_m2 142 rfl
theorem q488 : (Jvm.Cond.instanceMethod ({ cls := "NineGraves$Tokens", name := "wrong", desc := "(I)LNineGraves$Wrong;" } : Jvm.MethodName)) ∈ lw_all := lw_g (lw_at lw_m2 143 rfl) rfl
theorem q489 : (Jvm.Cond.code ({ cls := "NineGraves$Tokens", name := "wrong", desc := "(I)LNineGraves$Wrong;" } : Jvm.MethodName) prog_14_method_6_code (2 : Nat) (Option.some (Jvm.ClassFile.FieldType.object "NineGraves$Wrong"))) ∈ lw_all := lw_g (lw_at lw_m2 144 rfl) rfl
theorem q490 : (Jvm.Cond.classLink "NineGraves$Tokens" (65 : Nat) "NineGraves$Wrong") ∈ lw_all := lw_g (lw_at lw_m2 145 rfl) rfl
theorem q527 : (Jvm.Cond.methodLink "NineGraves$Tokens" (67 : Nat) ({ cls := "NineGraves$Wrong", name := "<init>", desc := "(II)V" } : Jvm.MethodName)) ∈ lw_all := lw_g (lw_at lw_m2 182 rfl) rfl
theorem q554 : (Jvm.Cond.methodLink "NineGraves$Tokens" (100 : Nat) ({ cls := "NineGraves$Tokens", name := "clause", desc := "(LNineGraves$Text;)V" } : Jvm.MethodName)) ∈ lw_all := lw_g (lw_at lw_m2 209 rfl) rfl
theorem q555 : (Jvm.Cond.privateMethod ({ cls := "NineGraves$Tokens", name := "clause", desc := "(LNineGraves$Text;)V" } : Jvm.MethodName)) ∈ lw_tbl := lw_at lw_m2 210 rfl
theorem q556 : (Jvm.Cond.instanceMethod ({ cls := "NineGraves$Tokens", name := "clause", desc := "(LNineGraves$Text;)V" } : Jvm.MethodName)) ∈ lw_all := lw_g (lw_at lw_m2 211 rfl) rfl
theorem q557 : (Jvm.Cond.code ({ cls := "NineGraves$Tokens", name := "clause", desc := "(LNineGraves$Text;)V" } : Jvm.MethodName) prog_14_method_11_code (2 : Nat) (Option.none : Option Jvm.ClassFile.FieldType)) ∈ lw_all := lw_g (lw_at lw_m2 212 rfl) rfl
theorem q558 : (Jvm.Cond.methodLink "NineGraves$Tokens" (108 : Nat) ({ cls := "NineGraves$Tokens", name := "sum", desc := "()LNineGraves$Sum;" } : Jvm.MethodName)) ∈ lw_all := lw_g (lw_at lw_m2 213 rfl) rfl
theorem q559 : (Jvm.Cond.privateMethod ({ cls := "NineGraves$Tokens", name := "sum", desc := "()LNineGraves$Sum;" } : Jvm.MethodName)) ∈ lw_tbl := lw_at lw_m2 214 rfl
theorem q560 : (Jvm.Cond.instanceMethod ({ cls := "NineGraves$Tokens", name := "sum", desc := "()LNineGraves$Sum;" } : Jvm.MethodName)) ∈ lw_all := lw_g (lw_at lw_m2 215 rfl) rfl
theorem q561 : (Jvm.Cond.code ({ cls := "NineGraves$Tokens", name := "sum", desc := "()LNineGraves$Sum;" } : Jvm.MethodName) prog_14_method_17_code (3 : Nat) (Option.some (Jvm.ClassFile.FieldType.object "NineGraves$Sum"))) ∈ lw_all := lw_g (lw_at lw_m2 216 rfl) rfl
theorem q562 : (Jvm.Cond.classLink "NineGraves$Tokens" (176 : Nat) "NineGraves$Chain") ∈ lw_all := lw_g (lw_at lw_m2 217 rfl) rfl
theorem q564 : (Jvm.Cond.methodLink "NineGraves$Tokens" (178 : Nat) ({ cls := "NineGraves$Tokens", name := "product", desc := "()LNineGraves$Sum;" } : Jvm.MethodName)) ∈ lw_all := lw_g (lw_at lw_m2 219 rfl) rfl
theorem q565 : (Jvm.Cond.privateMethod ({ cls := "NineGraves$Tokens", name := "product", desc := "()LNineGraves$Sum;" } : Jvm.MethodName)) ∈ lw_tbl := lw_at lw_m2 220 rfl
theorem q566 : (Jvm.Cond.instanceMethod ({ cls := "NineGraves$Tokens", name := "product", desc := "()LNineGraves$Sum;" } : Jvm.MethodName)) ∈ lw_all := lw_g (lw_at lw_m2 221 rfl) rfl
theorem q567 : (Jvm.Cond.code ({ cls := "NineGraves$Tokens", name := "product", desc := "()LNineGraves$Sum;" } : Jvm.MethodName) prog_14_method_18_code (3 : Nat) (Option.some (Jvm.ClassFile.FieldType.object "NineGraves$Sum"))) ∈ lw_all := lw_g (lw_at lw_m2 222 rfl) rfl
theorem q568 : (Jvm.Cond.methodLink "NineGraves$Tokens" (190 : Nat) ({ cls := "NineGraves$Tokens", name := "one", desc := "()LNineGraves$Sum;" } : Jvm.MethodName)) ∈ lw_all := lw_g (lw_at lw_m2 223 rfl) rfl
theorem q569 : (Jvm.Cond.privateMethod ({ cls := "NineGraves$Tokens", name := "one", desc := "()LNineGraves$Sum;" } : Jvm.MethodName)) ∈ lw_tbl := lw_at lw_m2 224 rfl
theorem q570 : (Jvm.Cond.instanceMethod ({ cls := "NineGraves$Tokens", name := "one", desc := "()LNineGraves$Sum;" } : Jvm.MethodName)) ∈ lw_all := lw_g (lw_at lw_m2 225 rfl) rfl
theorem q571 : (Jvm.Cond.code ({ cls := "NineGraves$Tokens", name := "one", desc := "()LNineGraves$Sum;" } : Jvm.MethodName) prog_14_method_19_code (2 : Nat) (Option.some (Jvm.ClassFile.FieldType.object "NineGraves$Sum"))) ∈ lw_all := lw_g (lw_at lw_m2 226 rfl) rfl
theorem q572 : (Jvm.Cond.classLink "NineGraves$Tokens" (193 : Nat) "NineGraves$Plain") ∈ lw_all := lw_g (lw_at lw_m2 227 rfl) rfl
theorem q574 : (Jvm.Cond.methodLink "NineGraves$Tokens" (136 : Nat) ({ cls := "NineGraves$Tokens", name := "number", desc := "(II)I" } : Jvm.MethodName)) ∈ lw_all := lw_g (lw_at lw_m2 229 rfl) rfl
theorem q575 : (Jvm.Cond.privateMethod ({ cls := "NineGraves$Tokens", name := "number", desc := "(II)I" } : Jvm.MethodName)) ∈ lw_tbl := lw_at lw_m2 230 rfl
theorem q576 : (Jvm.Cond.instanceMethod ({ cls := "NineGraves$Tokens", name := "number", desc := "(II)I" } : Jvm.MethodName)) ∈ lw_all := lw_g (lw_at lw_m2 231 rfl) rfl
theorem q577 : (Jvm.Cond.code ({ cls := "NineGraves$Tokens", name := "number", desc := "(II)I" } : Jvm.MethodName) prog_14_method_8_code (4 : Nat) (Option.some Jvm.ClassFile.FieldType.int)) ∈ lw_all := lw_g (lw_at lw_m2 232 rfl) rfl
theorem q578 : (Jvm.Cond.methodLinkNest "NineGraves$Tokens" (195 : Nat) ({ cls := "NineGraves$Plain", name := "<init>", desc := "(I)V" } : Jvm.MethodName) "NineGraves") ∈ lw_tbl := lw_at lw_m2 233 rfl
theorem q589 : (Jvm.Cond.classLink "NineGraves$Tokens" (197 : Nat) "NineGraves$Name") ∈ lw_all := lw_g (lw_at lw_m3 4 rfl) rfl
theorem q591 : (Jvm.Cond.methodLinkNest "NineGraves$Tokens" (199 : Nat) ({ cls := "NineGraves$Name", name := "<init>", desc := "(I)V" } : Jvm.MethodName) "NineGraves") ∈ lw_tbl := lw_at lw_m3 6 rfl
theorem q599 : (Jvm.Cond.methodLink "NineGraves$Tokens" (163 : Nat) ({ cls := "NineGraves$Tokens", name := "opens", desc := "()V" } : Jvm.MethodName)) ∈ lw_all := lw_g (lw_at lw_m3 14 rfl) rfl
theorem q600 : (Jvm.Cond.privateMethod ({ cls := "NineGraves$Tokens", name := "opens", desc := "()V" } : Jvm.MethodName)) ∈ lw_tbl := lw_at lw_m3 15 rfl
theorem q601 : (Jvm.Cond.instanceMethod ({ cls := "NineGraves$Tokens", name := "opens", desc := "()V" } : Jvm.MethodName)) ∈ lw_all := lw_g (lw_at lw_m3 16 rfl) rfl
theorem q602 : (Jvm.Cond.code ({ cls := "NineGraves$Tokens", name := "opens", desc := "()V" } : Jvm.MethodName) prog_14_method_9_code (1 : Nat) (Option.none : Option Jvm.ClassFile.FieldType)) ∈ lw_all := lw_g (lw_at lw_m3 17 rfl) rfl
theorem q603 : (Jvm.Cond.methodLink "NineGraves$Tokens" (104 : Nat) ({ cls := "NineGraves$Tokens", name := "want", desc := "(I)V" } : Jvm.MethodName)) ∈ lw_all := lw_g (lw_at lw_m3 18 rfl) rfl
theorem q604 : (Jvm.Cond.privateMethod ({ cls := "NineGraves$Tokens", name := "want", desc := "(I)V" } : Jvm.MethodName)) ∈ lw_tbl := lw_at lw_m3 19 rfl
theorem q605 : (Jvm.Cond.instanceMethod ({ cls := "NineGraves$Tokens", name := "want", desc := "(I)V" } : Jvm.MethodName)) ∈ lw_all := lw_g (lw_at lw_m3 20 rfl) rfl
theorem q606 : (Jvm.Cond.code ({ cls := "NineGraves$Tokens", name := "want", desc := "(I)V" } : Jvm.MethodName) prog_14_method_7_code (2 : Nat) (Option.none : Option Jvm.ClassFile.FieldType)) ∈ lw_all := lw_g (lw_at lw_m3 21 rfl) rfl
theorem q607 : (Jvm.Cond.classLink "NineGraves$Tokens" (200 : Nat) "NineGraves$Minus") ∈ lw_all := lw_g (lw_at lw_m3 22 rfl) rfl
theorem q609 : (Jvm.Cond.methodLinkNest "NineGraves$Tokens" (202 : Nat) ({ cls := "NineGraves$Minus", name := "<init>", desc := "(LNineGraves$Sum;)V" } : Jvm.MethodName) "NineGraves") ∈ lw_tbl := lw_at lw_m3 24 rfl
theorem q617 : (Jvm.Cond.methodLink "NineGraves$Tokens" (181 : Nat) ({ cls := "NineGraves$Chain", name := "<init>", desc := "(LNineGraves$Sum;)V" } : Jvm.MethodName)) ∈ lw_all := lw_g (lw_at lw_m3 32 rfl) rfl
theorem q633 : (Jvm.Cond.methodLink "NineGraves$Tokens" (184 : Nat) ({ cls := "NineGraves$Chain", name := "add", desc := "(ILNineGraves$Sum;)V" } : Jvm.MethodName)) ∈ lw_all := lw_g (lw_at lw_m3 48 rfl) rfl
theorem q700 : (Jvm.Cond.selects "NineGraves$Tokens" ({ cls := "java/lang/Object", name := "getClass", desc := "()Ljava/lang/Class;" } : Jvm.MethodName) ({ cls := "java/lang/Object", name := "getClass", desc := "()Ljava/lang/Class;" } : Jvm.MethodName)) ∈ lw_all := lw_g (lw_at lw_m3 115 rfl) rfl
theorem q716 : (Jvm.Cond.methodLink "NineGraves$Tokens" (187 : Nat) ({ cls := "NineGraves$Chain", name := "itself", desc := "()LNineGraves$Sum;" } : Jvm.MethodName)) ∈ lw_all := lw_g (lw_at lw_m3 131 rfl) rfl
theorem q724 : (Jvm.Cond.methodLink "NineGraves$Tokens" (112 : Nat) ({ cls := "NineGraves$Tokens", name := "either", desc := "()LNineGraves$Asked;" } : Jvm.MethodName)) ∈ lw_all := lw_g (lw_at lw_m3 139 rfl) rfl
theorem q725 : (Jvm.Cond.privateMethod ({ cls := "NineGraves$Tokens", name := "either", desc := "()LNineGraves$Asked;" } : Jvm.MethodName)) ∈ lw_tbl := lw_at lw_m3 140 rfl
theorem q726 : (Jvm.Cond.instanceMethod ({ cls := "NineGraves$Tokens", name := "either", desc := "()LNineGraves$Asked;" } : Jvm.MethodName)) ∈ lw_all := lw_g (lw_at lw_m3 141 rfl) rfl
theorem q727 : (Jvm.Cond.code ({ cls := "NineGraves$Tokens", name := "either", desc := "()LNineGraves$Asked;" } : Jvm.MethodName) prog_14_method_14_code (2 : Nat) (Option.some (Jvm.ClassFile.FieldType.object "NineGraves$Asked"))) ∈ lw_all := lw_g (lw_at lw_m3 142 rfl) rfl
theorem q728 : (Jvm.Cond.classLink "NineGraves$Tokens" (127 : Nat) "java/util/ArrayList") ∈ lw_all := lw_g (lw_at lw_m3 143 rfl) rfl
theorem q729 : (Jvm.Cond.methodLink "NineGraves$Tokens" (143 : Nat) ({ cls := "java/util/ArrayList", name := "<init>", desc := "()V" } : Jvm.MethodName)) ∈ lw_all := lw_g (lw_at lw_m3 144 rfl) rfl
theorem q730 : (Jvm.Cond.methodLink "NineGraves$Tokens" (144 : Nat) ({ cls := "NineGraves$Tokens", name := "both", desc := "()LNineGraves$Asked;" } : Jvm.MethodName)) ∈ lw_all := lw_g (lw_at lw_m3 145 rfl) rfl
theorem q731 : (Jvm.Cond.privateMethod ({ cls := "NineGraves$Tokens", name := "both", desc := "()LNineGraves$Asked;" } : Jvm.MethodName)) ∈ lw_tbl := lw_at lw_m3 146 rfl
theorem q732 : (Jvm.Cond.instanceMethod ({ cls := "NineGraves$Tokens", name := "both", desc := "()LNineGraves$Asked;" } : Jvm.MethodName)) ∈ lw_all := lw_g (lw_at lw_m3 147 rfl) rfl
theorem q733 : (Jvm.Cond.code ({ cls := "NineGraves$Tokens", name := "both", desc := "()LNineGraves$Asked;" } : Jvm.MethodName) prog_14_method_15_code (2 : Nat) (Option.some (Jvm.ClassFile.FieldType.object "NineGraves$Asked"))) ∈ lw_all := lw_g (lw_at lw_m3 148 rfl) rfl
theorem q734 : (Jvm.Cond.methodLink "NineGraves$Tokens" (160 : Nat) ({ cls := "NineGraves$Tokens", name := "ask", desc := "()LNineGraves$Asked;" } : Jvm.MethodName)) ∈ lw_all := lw_g (lw_at lw_m3 149 rfl) rfl
theorem q735 : (Jvm.Cond.privateMethod ({ cls := "NineGraves$Tokens", name := "ask", desc := "()LNineGraves$Asked;" } : Jvm.MethodName)) ∈ lw_tbl := lw_at lw_m3 150 rfl
theorem q736 : (Jvm.Cond.instanceMethod ({ cls := "NineGraves$Tokens", name := "ask", desc := "()LNineGraves$Asked;" } : Jvm.MethodName)) ∈ lw_all := lw_g (lw_at lw_m3 151 rfl) rfl
theorem q737 : (Jvm.Cond.code ({ cls := "NineGraves$Tokens", name := "ask", desc := "()LNineGraves$Asked;" } : Jvm.MethodName) prog_14_method_16_code (3 : Nat) (Option.some (Jvm.ClassFile.FieldType.object "NineGraves$Asked"))) ∈ lw_all := lw_g (lw_at lw_m3 152 rfl) rfl
theorem q738 : (Jvm.Cond.classLink "NineGraves$Tokens" (166 : Nat) "NineGraves$Not") ∈ lw_all := lw_g (lw_at lw_m3 153 rfl) rfl
theorem q740 : (Jvm.Cond.methodLinkNest "NineGraves$Tokens" (168 : Nat) ({ cls := "NineGraves$Not", name := "<init>", desc := "(LNineGraves$Asked;)V" } : Jvm.MethodName) "NineGraves") ∈ lw_tbl := lw_at lw_m3 155 rfl
theorem q748 : (Jvm.Cond.classLink "NineGraves$Tokens" (171 : Nat) "NineGraves$Compared") ∈ lw_all := lw_g (lw_at lw_m3 163 rfl) rfl
theorem q750 : (Jvm.Cond.methodLinkNest "NineGraves$Tokens" (173 : Nat) ({ cls := "NineGraves$Compared", name := "<init>", desc := "(ILNineGraves$Sum;LNineGraves$Sum;)V" } : Jvm.MethodName) "NineGraves") ∈ lw_tbl := lw_at lw_m3 165 rfl
theorem q764 : (Jvm.Cond.methodLink "NineGraves$Tokens" (126 : Nat) ({ cls := "java/util/ArrayList", name := "add", desc := "(Ljava/lang/Object;)Z" } : Jvm.MethodName)) ∈ lw_all := lw_g (lw_at lw_m3 179 rfl) rfl
theorem q765 : (Jvm.Cond.methodLink "NineGraves$Tokens" (147 : Nat) ({ cls := "java/util/ArrayList", name := "size", desc := "()I" } : Jvm.MethodName)) ∈ lw_all := lw_g (lw_at lw_m3 180 rfl) rfl
theorem q769 : (Jvm.Cond.methodLink "NineGraves$Tokens" (149 : Nat) ({ cls := "java/util/ArrayList", name := "get", desc := "(I)Ljava/lang/Object;" } : Jvm.MethodName)) ∈ lw_all := lw_g (lw_at lw_m3 184 rfl) rfl
theorem q781 : (Jvm.Cond.classLink "NineGraves$Tokens" (153 : Nat) "NineGraves$Asked") ∈ lw_all := lw_g (lw_at lw_m3 196 rfl) rfl
theorem q782 : (Jvm.Cond.classLink "NineGraves$Tokens" (155 : Nat) "NineGraves$All") ∈ lw_all := lw_g (lw_at lw_m3 197 rfl) rfl
theorem q784 : (Jvm.Cond.methodLinkNest "NineGraves$Tokens" (157 : Nat) ({ cls := "NineGraves$All", name := "<init>", desc := "(ZLjava/util/ArrayList;)V" } : Jvm.MethodName) "NineGraves") ∈ lw_tbl := lw_at lw_m3 199 rfl
theorem q795 : (Jvm.Cond.methodLink "NineGraves$Tokens" (116 : Nat) ({ cls := "NineGraves$Tokens", name := "kind", desc := "(LNineGraves$Text;)V" } : Jvm.MethodName)) ∈ lw_all := lw_g (lw_at lw_m3 210 rfl) rfl
theorem q796 : (Jvm.Cond.privateMethod ({ cls := "NineGraves$Tokens", name := "kind", desc := "(LNineGraves$Text;)V" } : Jvm.MethodName)) ∈ lw_tbl := lw_at lw_m3 211 rfl
theorem q797 : (Jvm.Cond.instanceMethod ({ cls := "NineGraves$Tokens", name := "kind", desc := "(LNineGraves$Text;)V" } : Jvm.MethodName)) ∈ lw_all := lw_g (lw_at lw_m3 212 rfl) rfl
theorem q798 : (Jvm.Cond.code ({ cls := "NineGraves$Tokens", name := "kind", desc := "(LNineGraves$Text;)V" } : Jvm.MethodName) prog_14_method_12_code (3 : Nat) (Option.none : Option Jvm.ClassFile.FieldType)) ∈ lw_all := lw_g (lw_at lw_m3 213 rfl) rfl
theorem q799 : (Jvm.Cond.methodLink "NineGraves$Tokens" (122 : Nat) ({ cls := "NineGraves$Tokens", name := "doing", desc := "(I)LNineGraves$Doing;" } : Jvm.MethodName)) ∈ lw_all := lw_g (lw_at lw_m3 214 rfl) rfl
theorem q800 : (Jvm.Cond.privateMethod ({ cls := "NineGraves$Tokens", name := "doing", desc := "(I)LNineGraves$Doing;" } : Jvm.MethodName)) ∈ lw_tbl := lw_at lw_m3 215 rfl
theorem q801 : (Jvm.Cond.instanceMethod ({ cls := "NineGraves$Tokens", name := "doing", desc := "(I)LNineGraves$Doing;" } : Jvm.MethodName)) ∈ lw_all := lw_g (lw_at lw_m3 216 rfl) rfl
theorem q802 : (Jvm.Cond.code ({ cls := "NineGraves$Tokens", name := "doing", desc := "(I)LNineGraves$Doing;" } : Jvm.MethodName) prog_14_method_13_code (4 : Nat) (Option.some (Jvm.ClassFile.FieldType.object "NineGraves$Doing"))) ∈ lw_all := lw_g (lw_at lw_m3 217 rfl) rfl
theorem q803 : (Jvm.Cond.classLink "NineGraves$Tokens" (138 : Nat) "NineGraves$Doing") ∈ lw_all := lw_g (lw_at lw_m3 218 rfl) rfl
theorem q805 : (Jvm.Cond.methodLinkNest "NineGraves$Tokens" (140 : Nat) ({ cls := "NineGraves$Doing", name := "<init>", desc := "(IIIII)V" } : Jvm.MethodName) "NineGraves") ∈ lw_tbl := lw_at lw_m3 220 rfl
theorem q1685 : (Jvm.Cond.castable "NineGraves$Tokens" "java/lang/Object") ∈ lw_tbl := lw_at lw_m7 140 rfl
theorem q1713 : (Jvm.Cond.stringRef "NineGraves$Tokens" (203 : Nat) "worn") ∈ lw_tbl := lw_at lw_m7 168 rfl
theorem q1714 : (Jvm.Cond.stringRef "NineGraves$Tokens" (204 : Nat) "holy") ∈ lw_tbl := lw_at lw_m7 169 rfl
theorem q1715 : (Jvm.Cond.stringRef "NineGraves$Tokens" (205 : Nat) "unlike") ∈ lw_tbl := lw_at lw_m7 170 rfl
theorem q1716 : (Jvm.Cond.stringRef "NineGraves$Tokens" (206 : Nat) "kind") ∈ lw_tbl := lw_at lw_m7 171 rfl
theorem q1717 : (Jvm.Cond.stringRef "NineGraves$Tokens" (207 : Nat) "lend") ∈ lw_tbl := lw_at lw_m7 172 rfl
theorem q1718 : (Jvm.Cond.stringRef "NineGraves$Tokens" (209 : Nat) "swap") ∈ lw_tbl := lw_at lw_m7 173 rfl
theorem q1719 : (Jvm.Cond.stringRef "NineGraves$Tokens" (211 : Nat) "steal") ∈ lw_tbl := lw_at lw_m7 174 rfl
theorem q1720 : (Jvm.Cond.stringRef "NineGraves$Tokens" (213 : Nat) "burn") ∈ lw_tbl := lw_at lw_m7 175 rfl
theorem q1721 : (Jvm.Cond.stringRef "NineGraves$Tokens" (215 : Nat) "pass") ∈ lw_tbl := lw_at lw_m7 176 rfl
theorem q1722 : (Jvm.Cond.stringRef "NineGraves$Tokens" (217 : Nat) "many") ∈ lw_tbl := lw_at lw_m7 177 rfl
theorem q1723 : (Jvm.Cond.stringRef "NineGraves$Tokens" (218 : Nat) "to") ∈ lw_tbl := lw_at lw_m7 178 rfl
theorem q1724 : (Jvm.Cond.stringRef "NineGraves$Tokens" (220 : Nat) "for") ∈ lw_tbl := lw_at lw_m7 179 rfl
theorem q1725 : (Jvm.Cond.stringRef "NineGraves$Tokens" (222 : Nat) "with") ∈ lw_tbl := lw_at lw_m7 180 rfl
theorem q1726 : (Jvm.Cond.stringRef "NineGraves$Tokens" (224 : Nat) "or") ∈ lw_tbl := lw_at lw_m7 181 rfl
theorem q1727 : (Jvm.Cond.stringRef "NineGraves$Tokens" (226 : Nat) "and") ∈ lw_tbl := lw_at lw_m7 182 rfl
theorem q1728 : (Jvm.Cond.stringRef "NineGraves$Tokens" (228 : Nat) "not") ∈ lw_tbl := lw_at lw_m7 183 rfl
theorem q1729 : (Jvm.Cond.stringRef "NineGraves$Tokens" (230 : Nat) "sort") ∈ lw_tbl := lw_at lw_m7 184 rfl
theorem q1730 : (Jvm.Cond.stringRef "NineGraves$Tokens" (231 : Nat) "weight") ∈ lw_tbl := lw_at lw_m7 185 rfl
theorem q1731 : (Jvm.Cond.stringRef "NineGraves$Tokens" (233 : Nat) "town") ∈ lw_tbl := lw_at lw_m7 186 rfl
theorem q1732 : (Jvm.Cond.stringRef "NineGraves$Tokens" (235 : Nat) "proofs") ∈ lw_tbl := lw_at lw_m7 187 rfl
theorem q1733 : (Jvm.Cond.stringRef "NineGraves$Tokens" (237 : Nat) "year") ∈ lw_tbl := lw_at lw_m7 188 rfl
theorem q1734 : (Jvm.Cond.stringRef "NineGraves$Tokens" (239 : Nat) "osort") ∈ lw_tbl := lw_at lw_m7 189 rfl
theorem q1735 : (Jvm.Cond.stringRef "NineGraves$Tokens" (241 : Nat) "oweight") ∈ lw_tbl := lw_at lw_m7 190 rfl
theorem q1736 : (Jvm.Cond.stringRef "NineGraves$Tokens" (243 : Nat) "otown") ∈ lw_tbl := lw_at lw_m7 191 rfl
theorem in_X3 : ∀ w ∈ wsX30, w ∈ lw_all := lw_in wsX30 [338, 340, 342, 344, 346, 348, 350, 352] (by decide +kernel) (by decide +kernel)
/-! NineGraves$Text -/
set_option maxRecDepth 100000
def RX4 : String := "NineGraves$Text"
def TX4 : u_T := fun k => match k with
  | 0 => ("NineGraves$Text", "worn", "LNineGraves$Sum;", false)
  | 1 => ("NineGraves$Text", "holy", "LNineGraves$Asked;", false)
  | 2 => ("NineGraves$Text", "unlike", "LNineGraves$Asked;", false)
  | 3 => ("NineGraves$Text", "many", "[I", true)
  | 4 => ("NineGraves$Text", "doings", "Ljava/util/ArrayList;", true)
  | _ => ("NineGraves$Text", "clauses", "I", false)
def tyX4 : Nat → FieldType := fun k => match k with
  | 0 => .object "NineGraves$Sum"
  | 1 => .object "NineGraves$Asked"
  | 2 => .object "NineGraves$Asked"
  | 3 => .array .int
  | 4 => .object "java/util/ArrayList"
  | _ => .int
abbrev wsX40 : List Cond := u_ws RX4 TX4 6
theorem nmX4 : ∀ a, a < 6 → ∀ b, b < 6 → a ≠ b → (TX4 a).2.1 ≠ (TX4 b).2.1 := by decide +kernel
theorem tyX4_ok : ∀ k, k < 6 → parseFieldDescriptor (TX4 k).2.2.1 = some (tyX4 k) := by decide +kernel
abbrev cX4_init : ByteArray := prog_13_method_1_code
def yX4_init : MethodName := ⟨RX4, "<init>", "()V"⟩
theorem q111 : (Jvm.Cond.initialized "NineGraves$Text") ∈ lw_all := lw_g (lw_at lw_m1 6 rfl) rfl
theorem q360 : (Jvm.Cond.instantiable "NineGraves$Text" (6 : Nat)) ∈ lw_all := lw_g (lw_at lw_m2 15 rfl) rfl
theorem q362 : (Jvm.Cond.instanceMethod ({ cls := "NineGraves$Text", name := "<init>", desc := "()V" } : Jvm.MethodName)) ∈ lw_all := lw_g (lw_at lw_m2 17 rfl) rfl
theorem q363 : (Jvm.Cond.code ({ cls := "NineGraves$Text", name := "<init>", desc := "()V" } : Jvm.MethodName) prog_13_method_1_code (1 : Nat) (Option.none : Option Jvm.ClassFile.FieldType)) ∈ lw_all := lw_g (lw_at lw_m2 18 rfl) rfl
theorem q364 : (Jvm.Cond.methodLink "NineGraves$Text" (3 : Nat) ({ cls := "java/lang/Object", name := "<init>", desc := "()V" } : Jvm.MethodName)) ∈ lw_all := lw_g (lw_at lw_m2 19 rfl) rfl
theorem q365 : (Jvm.Cond.classLink "NineGraves$Text" (15 : Nat) "java/util/ArrayList") ∈ lw_all := lw_g (lw_at lw_m2 20 rfl) rfl
theorem q367 : (Jvm.Cond.methodLink "NineGraves$Text" (17 : Nat) ({ cls := "java/util/ArrayList", name := "<init>", desc := "()V" } : Jvm.MethodName)) ∈ lw_all := lw_g (lw_at lw_m2 22 rfl) rfl
theorem q397 : (Jvm.Cond.fieldLink "NineGraves$Text" (9 : Nat) "NineGraves$Text" "many" "[I") ∈ lw_all := lw_g (lw_at lw_m2 52 rfl) rfl
theorem q400 : (Jvm.Cond.fieldLink "NineGraves$Text" (18 : Nat) "NineGraves$Text" "doings" "Ljava/util/ArrayList;") ∈ lw_all := lw_g (lw_at lw_m2 55 rfl) rfl
theorem q404 : (Jvm.Cond.lays "NineGraves$Text" "NineGraves$Text" "worn" "LNineGraves$Sum;") ∈ lw_all := lw_g (lw_at lw_m2 59 rfl) rfl
theorem q405 : (Jvm.Cond.soleField "NineGraves$Text" "worn") ∈ lw_all := lw_g (lw_at lw_m2 60 rfl) rfl
theorem q406 : (Jvm.Cond.lays "NineGraves$Text" "NineGraves$Text" "holy" "LNineGraves$Asked;") ∈ lw_all := lw_g (lw_at lw_m2 61 rfl) rfl
theorem q407 : (Jvm.Cond.soleField "NineGraves$Text" "holy") ∈ lw_all := lw_g (lw_at lw_m2 62 rfl) rfl
theorem q408 : (Jvm.Cond.lays "NineGraves$Text" "NineGraves$Text" "unlike" "LNineGraves$Asked;") ∈ lw_all := lw_g (lw_at lw_m2 63 rfl) rfl
theorem q409 : (Jvm.Cond.soleField "NineGraves$Text" "unlike") ∈ lw_all := lw_g (lw_at lw_m2 64 rfl) rfl
theorem q410 : (Jvm.Cond.laysFinal "NineGraves$Text" "NineGraves$Text" "many" "[I") ∈ lw_all := lw_g (lw_at lw_m2 65 rfl) rfl
theorem q411 : (Jvm.Cond.soleField "NineGraves$Text" "many") ∈ lw_all := lw_g (lw_at lw_m2 66 rfl) rfl
theorem q412 : (Jvm.Cond.laysFinal "NineGraves$Text" "NineGraves$Text" "doings" "Ljava/util/ArrayList;") ∈ lw_all := lw_g (lw_at lw_m2 67 rfl) rfl
theorem q413 : (Jvm.Cond.soleField "NineGraves$Text" "doings") ∈ lw_all := lw_g (lw_at lw_m2 68 rfl) rfl
theorem q414 : (Jvm.Cond.lays "NineGraves$Text" "NineGraves$Text" "clauses" "I") ∈ lw_all := lw_g (lw_at lw_m2 69 rfl) rfl
theorem q415 : (Jvm.Cond.soleField "NineGraves$Text" "clauses") ∈ lw_all := lw_g (lw_at lw_m2 70 rfl) rfl
theorem q416 : (Jvm.Cond.superclass "NineGraves$Text" "java/lang/Object") ∈ lw_all := lw_g (lw_at lw_m2 71 rfl) rfl
theorem q699 : (Jvm.Cond.selects "NineGraves$Text" ({ cls := "java/lang/Object", name := "getClass", desc := "()Ljava/lang/Class;" } : Jvm.MethodName) ({ cls := "java/lang/Object", name := "getClass", desc := "()Ljava/lang/Class;" } : Jvm.MethodName)) ∈ lw_all := lw_g (lw_at lw_m3 114 rfl) rfl
theorem q1680 : (Jvm.Cond.castable "NineGraves$Text" "java/lang/Object") ∈ lw_tbl := lw_at lw_m7 135 rfl
theorem in_X4 : ∀ w ∈ wsX40, w ∈ lw_all := lw_in wsX40 [404, 406, 408, 410, 412, 414] (by decide +kernel) (by decide +kernel)
/-! NineGraves$Wrong -/
set_option maxRecDepth 100000
def RX5 : String := "NineGraves$Wrong"
def TX5 : u_T := fun k => match k with
  | 0 => ("java/lang/Throwable", "cause", "Ljava/lang/Throwable;", false)
  | 1 => ("java/lang/Throwable", "stackTrace", "[Ljava/lang/StackTraceElement;", false)
  | 2 => ("java/lang/Throwable", "suppressedExceptions", "Ljava/util/List;", false)
  | 3 => ("java/lang/Throwable", "detailMessage", "Ljava/lang/String;", false)
  | 4 => ("java/lang/Throwable", "backtrace", "Ljava/lang/Object;", false)
  | 5 => ("java/lang/Throwable", "depth", "I", false)
  | 6 => ("NineGraves$Wrong", "fault", "I", true)
  | _ => ("NineGraves$Wrong", "place", "I", true)
def tyX5 : Nat → FieldType := fun k => match k with
  | 0 => .object "java/lang/Throwable"
  | 1 => .array (.object "java/lang/StackTraceElement")
  | 2 => .object "java/util/List"
  | 3 => .object "java/lang/String"
  | 4 => .object "java/lang/Object"
  | 5 => .int
  | 6 => .int
  | _ => .int
abbrev wsX50 : List Cond := u_ws RX5 TX5 8
theorem nmX5 : ∀ a, a < 8 → ∀ b, b < 8 → a ≠ b → (TX5 a).2.1 ≠ (TX5 b).2.1 := by decide +kernel
theorem tyX5_ok : ∀ k, k < 8 → parseFieldDescriptor (TX5 k).2.2.1 = some (tyX5 k) := by decide +kernel
abbrev cX5_init : ByteArray := prog_15_method_1_code
def yX5_init : MethodName := ⟨RX5, "<init>", "(II)V"⟩
theorem q122 : (Jvm.Cond.initialized "NineGraves$Wrong") ∈ lw_all := lw_g (lw_at lw_m1 17 rfl) rfl
theorem q491 : (Jvm.Cond.instantiable "NineGraves$Wrong" (8 : Nat)) ∈ lw_all := lw_g (lw_at lw_m2 146 rfl) rfl
theorem q492 : (Jvm.Cond.castable "NineGraves$Wrong" "NineGraves$Wrong") ∈ lw_tbl := lw_at lw_m2 147 rfl
theorem q497 : (Jvm.Cond.selects "NineGraves$Wrong" ({ cls := "java/lang/Throwable", name := "fillInStackTrace", desc := "(I)Ljava/lang/Throwable;" } : Jvm.MethodName) ({ cls := "java/lang/Throwable", name := "fillInStackTrace", desc := "(I)Ljava/lang/Throwable;" } : Jvm.MethodName)) ∈ lw_all := lw_g (lw_at lw_m2 152 rfl) rfl
theorem q498 : (Jvm.Cond.selects "NineGraves$Wrong" ({ cls := "java/lang/Throwable", name := "fillInStackTrace", desc := "()Ljava/lang/Throwable;" } : Jvm.MethodName) ({ cls := "java/lang/Throwable", name := "fillInStackTrace", desc := "()Ljava/lang/Throwable;" } : Jvm.MethodName)) ∈ lw_all := lw_g (lw_at lw_m2 153 rfl) rfl
theorem q499 : (Jvm.Cond.lays "NineGraves$Wrong" "java/lang/Throwable" "cause" "Ljava/lang/Throwable;") ∈ lw_all := lw_g (lw_at lw_m2 154 rfl) rfl
theorem q501 : (Jvm.Cond.lays "NineGraves$Wrong" "java/lang/Throwable" "stackTrace" "[Ljava/lang/StackTraceElement;") ∈ lw_all := lw_g (lw_at lw_m2 156 rfl) rfl
theorem q503 : (Jvm.Cond.lays "NineGraves$Wrong" "java/lang/Throwable" "suppressedExceptions" "Ljava/util/List;") ∈ lw_all := lw_g (lw_at lw_m2 158 rfl) rfl
theorem q505 : (Jvm.Cond.lays "NineGraves$Wrong" "java/lang/Throwable" "detailMessage" "Ljava/lang/String;") ∈ lw_all := lw_g (lw_at lw_m2 160 rfl) rfl
theorem q507 : (Jvm.Cond.lays "NineGraves$Wrong" "java/lang/Throwable" "backtrace" "Ljava/lang/Object;") ∈ lw_all := lw_g (lw_at lw_m2 162 rfl) rfl
theorem q528 : (Jvm.Cond.instanceMethod ({ cls := "NineGraves$Wrong", name := "<init>", desc := "(II)V" } : Jvm.MethodName)) ∈ lw_all := lw_g (lw_at lw_m2 183 rfl) rfl
theorem q529 : (Jvm.Cond.code ({ cls := "NineGraves$Wrong", name := "<init>", desc := "(II)V" } : Jvm.MethodName) prog_15_method_1_code (3 : Nat) (Option.none : Option Jvm.ClassFile.FieldType)) ∈ lw_all := lw_g (lw_at lw_m2 184 rfl) rfl
theorem q530 : (Jvm.Cond.methodLink "NineGraves$Wrong" (1 : Nat) ({ cls := "java/lang/Exception", name := "<init>", desc := "()V" } : Jvm.MethodName)) ∈ lw_all := lw_g (lw_at lw_m2 185 rfl) rfl
theorem q534 : (Jvm.Cond.fieldLink "NineGraves$Wrong" (7 : Nat) "NineGraves$Wrong" "fault" "I") ∈ lw_all := lw_g (lw_at lw_m2 189 rfl) rfl
theorem q536 : (Jvm.Cond.fieldLink "NineGraves$Wrong" (13 : Nat) "NineGraves$Wrong" "place" "I") ∈ lw_all := lw_g (lw_at lw_m2 191 rfl) rfl
theorem q542 : (Jvm.Cond.laysFinal "NineGraves$Wrong" "NineGraves$Wrong" "fault" "I") ∈ lw_all := lw_g (lw_at lw_m2 197 rfl) rfl
theorem q543 : (Jvm.Cond.soleField "NineGraves$Wrong" "fault") ∈ lw_all := lw_g (lw_at lw_m2 198 rfl) rfl
theorem q544 : (Jvm.Cond.laysFinal "NineGraves$Wrong" "NineGraves$Wrong" "place" "I") ∈ lw_all := lw_g (lw_at lw_m2 199 rfl) rfl
theorem q545 : (Jvm.Cond.soleField "NineGraves$Wrong" "place") ∈ lw_all := lw_g (lw_at lw_m2 200 rfl) rfl
theorem q550 : (Jvm.Cond.lays "NineGraves$Wrong" "java/lang/Throwable" "depth" "I") ∈ lw_all := lw_g (lw_at lw_m2 205 rfl) rfl
theorem q553 : (Jvm.Cond.superclass "NineGraves$Wrong" "java/lang/Exception") ∈ lw_all := lw_g (lw_at lw_m2 208 rfl) rfl
theorem q701 : (Jvm.Cond.selects "NineGraves$Wrong" ({ cls := "java/lang/Object", name := "getClass", desc := "()Ljava/lang/Class;" } : Jvm.MethodName) ({ cls := "java/lang/Object", name := "getClass", desc := "()Ljava/lang/Class;" } : Jvm.MethodName)) ∈ lw_all := lw_g (lw_at lw_m3 116 rfl) rfl
theorem q1687 : (Jvm.Cond.castable "NineGraves$Wrong" "java/lang/Object") ∈ lw_tbl := lw_at lw_m7 142 rfl
theorem in_X5 : ∀ w ∈ wsX50, w ∈ lw_all := lw_in wsX50 [499, 501, 503, 505, 507, 550, 542, 544] (by decide +kernel) (by decide +kernel)
/-! NineGraves$Chain -/
set_option maxRecDepth 100000
def RX6 : String := "NineGraves$Chain"
def TX6 : u_T := fun k => match k with
  | 0 => ("NineGraves$Chain", "first", "LNineGraves$Sum;", true)
  | 1 => ("NineGraves$Chain", "more", "Ljava/util/ArrayList;", true)
  | _ => ("NineGraves$Chain", "signs", "Ljava/util/ArrayList;", true)
def tyX6 : Nat → FieldType := fun k => match k with
  | 0 => .object "NineGraves$Sum"
  | 1 => .object "java/util/ArrayList"
  | _ => .object "java/util/ArrayList"
abbrev wsX60 : List Cond := u_ws RX6 TX6 3
theorem nmX6 : ∀ a, a < 3 → ∀ b, b < 3 → a ≠ b → (TX6 a).2.1 ≠ (TX6 b).2.1 := by decide +kernel
theorem tyX6_ok : ∀ k, k < 3 → parseFieldDescriptor (TX6 k).2.2.1 = some (tyX6 k) := by decide +kernel
abbrev cX6_init : ByteArray := prog_4_method_1_code
def yX6_init : MethodName := ⟨RX6, "<init>", "(LNineGraves$Sum;)V"⟩
abbrev cX6_add : ByteArray := prog_4_method_2_code
def yX6_add : MethodName := ⟨RX6, "add", "(ILNineGraves$Sum;)V"⟩
abbrev cX6_itself : ByteArray := prog_4_method_3_code
def yX6_itself : MethodName := ⟨RX6, "itself", "()LNineGraves$Sum;"⟩
abbrev cX6_of : ByteArray := prog_4_method_4_code
def yX6_of : MethodName := ⟨RX6, "of", "([I)J"⟩
theorem q123 : (Jvm.Cond.initialized "NineGraves$Chain") ∈ lw_all := lw_g (lw_at lw_m1 18 rfl) rfl
theorem q563 : (Jvm.Cond.instantiable "NineGraves$Chain" (3 : Nat)) ∈ lw_all := lw_g (lw_at lw_m2 218 rfl) rfl
theorem q618 : (Jvm.Cond.instanceMethod ({ cls := "NineGraves$Chain", name := "<init>", desc := "(LNineGraves$Sum;)V" } : Jvm.MethodName)) ∈ lw_all := lw_g (lw_at lw_m3 33 rfl) rfl
theorem q619 : (Jvm.Cond.code ({ cls := "NineGraves$Chain", name := "<init>", desc := "(LNineGraves$Sum;)V" } : Jvm.MethodName) prog_4_method_1_code (2 : Nat) (Option.none : Option Jvm.ClassFile.FieldType)) ∈ lw_all := lw_g (lw_at lw_m3 34 rfl) rfl
theorem q620 : (Jvm.Cond.methodLink "NineGraves$Chain" (3 : Nat) ({ cls := "java/lang/Object", name := "<init>", desc := "()V" } : Jvm.MethodName)) ∈ lw_all := lw_g (lw_at lw_m3 35 rfl) rfl
theorem q621 : (Jvm.Cond.classLink "NineGraves$Chain" (9 : Nat) "java/util/ArrayList") ∈ lw_all := lw_g (lw_at lw_m3 36 rfl) rfl
theorem q622 : (Jvm.Cond.methodLink "NineGraves$Chain" (11 : Nat) ({ cls := "java/util/ArrayList", name := "<init>", desc := "()V" } : Jvm.MethodName)) ∈ lw_all := lw_g (lw_at lw_m3 37 rfl) rfl
theorem q623 : (Jvm.Cond.fieldLink "NineGraves$Chain" (21 : Nat) "NineGraves$Chain" "first" "LNineGraves$Sum;") ∈ lw_all := lw_g (lw_at lw_m3 38 rfl) rfl
theorem q624 : (Jvm.Cond.fieldLink "NineGraves$Chain" (12 : Nat) "NineGraves$Chain" "more" "Ljava/util/ArrayList;") ∈ lw_all := lw_g (lw_at lw_m3 39 rfl) rfl
theorem q625 : (Jvm.Cond.fieldLink "NineGraves$Chain" (18 : Nat) "NineGraves$Chain" "signs" "Ljava/util/ArrayList;") ∈ lw_all := lw_g (lw_at lw_m3 40 rfl) rfl
theorem q626 : (Jvm.Cond.laysFinal "NineGraves$Chain" "NineGraves$Chain" "first" "LNineGraves$Sum;") ∈ lw_all := lw_g (lw_at lw_m3 41 rfl) rfl
theorem q627 : (Jvm.Cond.soleField "NineGraves$Chain" "first") ∈ lw_all := lw_g (lw_at lw_m3 42 rfl) rfl
theorem q628 : (Jvm.Cond.laysFinal "NineGraves$Chain" "NineGraves$Chain" "more" "Ljava/util/ArrayList;") ∈ lw_all := lw_g (lw_at lw_m3 43 rfl) rfl
theorem q629 : (Jvm.Cond.soleField "NineGraves$Chain" "more") ∈ lw_all := lw_g (lw_at lw_m3 44 rfl) rfl
theorem q630 : (Jvm.Cond.laysFinal "NineGraves$Chain" "NineGraves$Chain" "signs" "Ljava/util/ArrayList;") ∈ lw_all := lw_g (lw_at lw_m3 45 rfl) rfl
theorem q631 : (Jvm.Cond.soleField "NineGraves$Chain" "signs") ∈ lw_all := lw_g (lw_at lw_m3 46 rfl) rfl
theorem q632 : (Jvm.Cond.superclass "NineGraves$Chain" "java/lang/Object") ∈ lw_all := lw_g (lw_at lw_m3 47 rfl) rfl
theorem q634 : (Jvm.Cond.instanceMethod ({ cls := "NineGraves$Chain", name := "add", desc := "(ILNineGraves$Sum;)V" } : Jvm.MethodName)) ∈ lw_all := lw_g (lw_at lw_m3 49 rfl) rfl
theorem q635 : (Jvm.Cond.selects "NineGraves$Chain" ({ cls := "NineGraves$Chain", name := "add", desc := "(ILNineGraves$Sum;)V" } : Jvm.MethodName) ({ cls := "NineGraves$Chain", name := "add", desc := "(ILNineGraves$Sum;)V" } : Jvm.MethodName)) ∈ lw_all := lw_g (lw_at lw_m3 50 rfl) rfl
theorem q636 : (Jvm.Cond.code ({ cls := "NineGraves$Chain", name := "add", desc := "(ILNineGraves$Sum;)V" } : Jvm.MethodName) prog_4_method_2_code (3 : Nat) (Option.none : Option Jvm.ClassFile.FieldType)) ∈ lw_all := lw_g (lw_at lw_m3 51 rfl) rfl
theorem q637 : (Jvm.Cond.methodLink "NineGraves$Chain" (25 : Nat) ({ cls := "java/lang/Integer", name := "valueOf", desc := "(I)Ljava/lang/Integer;" } : Jvm.MethodName)) ∈ lw_all := lw_g (lw_at lw_m3 52 rfl) rfl
theorem q657 : (Jvm.Cond.methodLink "NineGraves$Chain" (31 : Nat) ({ cls := "java/util/ArrayList", name := "add", desc := "(Ljava/lang/Object;)Z" } : Jvm.MethodName)) ∈ lw_all := lw_g (lw_at lw_m3 72 rfl) rfl
theorem q691 : (Jvm.Cond.selects "NineGraves$Chain" ({ cls := "java/lang/Object", name := "getClass", desc := "()Ljava/lang/Class;" } : Jvm.MethodName) ({ cls := "java/lang/Object", name := "getClass", desc := "()Ljava/lang/Class;" } : Jvm.MethodName)) ∈ lw_all := lw_g (lw_at lw_m3 106 rfl) rfl
theorem q717 : (Jvm.Cond.instanceMethod ({ cls := "NineGraves$Chain", name := "itself", desc := "()LNineGraves$Sum;" } : Jvm.MethodName)) ∈ lw_all := lw_g (lw_at lw_m3 132 rfl) rfl
theorem q718 : (Jvm.Cond.selects "NineGraves$Chain" ({ cls := "NineGraves$Chain", name := "itself", desc := "()LNineGraves$Sum;" } : Jvm.MethodName) ({ cls := "NineGraves$Chain", name := "itself", desc := "()LNineGraves$Sum;" } : Jvm.MethodName)) ∈ lw_all := lw_g (lw_at lw_m3 133 rfl) rfl
theorem q719 : (Jvm.Cond.code ({ cls := "NineGraves$Chain", name := "itself", desc := "()LNineGraves$Sum;" } : Jvm.MethodName) prog_4_method_3_code (1 : Nat) (Option.some (Jvm.ClassFile.FieldType.object "NineGraves$Sum"))) ∈ lw_all := lw_g (lw_at lw_m3 134 rfl) rfl
theorem q720 : (Jvm.Cond.methodLink "NineGraves$Chain" (35 : Nat) ({ cls := "java/util/ArrayList", name := "isEmpty", desc := "()Z" } : Jvm.MethodName)) ∈ lw_all := lw_g (lw_at lw_m3 135 rfl) rfl
theorem q899 : (Jvm.Cond.castable "NineGraves$Chain" "NineGraves$Sum") ∈ lw_tbl := lw_at lw_m4 74 rfl
theorem q900 : (Jvm.Cond.selects "NineGraves$Chain" ({ cls := "NineGraves$Sum", name := "of", desc := "([I)J" } : Jvm.MethodName) ({ cls := "NineGraves$Chain", name := "of", desc := "([I)J" } : Jvm.MethodName)) ∈ lw_all := lw_g (lw_at lw_m4 75 rfl) rfl
theorem q901 : (Jvm.Cond.unhidden "NineGraves$Chain" "of" "([I)J") ∈ lw_tbl := lw_at lw_m4 76 rfl
theorem q902 : (Jvm.Cond.instanceMethod ({ cls := "NineGraves$Chain", name := "of", desc := "([I)J" } : Jvm.MethodName)) ∈ lw_all := lw_g (lw_at lw_m4 77 rfl) rfl
theorem q903 : (Jvm.Cond.publicMethod ({ cls := "NineGraves$Chain", name := "of", desc := "([I)J" } : Jvm.MethodName)) ∈ lw_tbl := lw_at lw_m4 78 rfl
theorem q904 : (Jvm.Cond.code ({ cls := "NineGraves$Chain", name := "of", desc := "([I)J" } : Jvm.MethodName) prog_4_method_4_code (10 : Nat) (Option.some Jvm.ClassFile.FieldType.long)) ∈ lw_all := lw_g (lw_at lw_m4 79 rfl) rfl
theorem q905 : (Jvm.Cond.interfaceEntry "NineGraves$Chain" (39 : Nat)) ∈ lw_tbl := lw_at lw_m4 80 rfl
theorem q906 : (Jvm.Cond.methodLink "NineGraves$Chain" (39 : Nat) ({ cls := "NineGraves$Sum", name := "of", desc := "([I)J" } : Jvm.MethodName)) ∈ lw_all := lw_g (lw_at lw_m4 81 rfl) rfl
theorem q927 : (Jvm.Cond.methodLink "NineGraves$Chain" (45 : Nat) ({ cls := "java/util/ArrayList", name := "size", desc := "()I" } : Jvm.MethodName)) ∈ lw_all := lw_g (lw_at lw_m4 102 rfl) rfl
theorem q928 : (Jvm.Cond.methodLink "NineGraves$Chain" (49 : Nat) ({ cls := "java/util/ArrayList", name := "get", desc := "(I)Ljava/lang/Object;" } : Jvm.MethodName)) ∈ lw_all := lw_g (lw_at lw_m4 103 rfl) rfl
theorem q929 : (Jvm.Cond.classLink "NineGraves$Chain" (40 : Nat) "NineGraves$Sum") ∈ lw_all := lw_g (lw_at lw_m4 104 rfl) rfl
theorem q930 : (Jvm.Cond.classLink "NineGraves$Chain" (26 : Nat) "java/lang/Integer") ∈ lw_all := lw_g (lw_at lw_m4 105 rfl) rfl
theorem q931 : (Jvm.Cond.methodLink "NineGraves$Chain" (53 : Nat) ({ cls := "java/lang/Integer", name := "intValue", desc := "()I" } : Jvm.MethodName)) ∈ lw_all := lw_g (lw_at lw_m4 106 rfl) rfl
theorem q935 : (Jvm.Cond.constantLong "NineGraves$Chain" (56 : Nat) (-1000000 : Int64)) ∈ lw_all := lw_g (lw_at lw_m4 110 rfl) rfl
theorem q936 : (Jvm.Cond.constantLong "NineGraves$Chain" (58 : Nat) (1000000 : Int64)) ∈ lw_all := lw_g (lw_at lw_m4 111 rfl) rfl
theorem q937 : (Jvm.Cond.methodLink "NineGraves$Chain" (60 : Nat) ({ cls := "java/lang/Math", name := "min", desc := "(JJ)J" } : Jvm.MethodName)) ∈ lw_all := lw_g (lw_at lw_m4 112 rfl) rfl
theorem q940 : (Jvm.Cond.methodLink "NineGraves$Chain" (66 : Nat) ({ cls := "java/lang/Math", name := "max", desc := "(JJ)J" } : Jvm.MethodName)) ∈ lw_all := lw_g (lw_at lw_m4 115 rfl) rfl
theorem q1688 : (Jvm.Cond.castable "NineGraves$Chain" "java/lang/Object") ∈ lw_tbl := lw_at lw_m7 143 rfl
theorem in_X6 : ∀ w ∈ wsX60, w ∈ lw_all := lw_in wsX60 [626, 628, 630] (by decide +kernel) (by decide +kernel)
/-! NineGraves$Plain -/
set_option maxRecDepth 100000
def RX7 : String := "NineGraves$Plain"
def TX7 : u_T := fun k => match k with
  | _ => ("NineGraves$Plain", "n", "I", true)
def tyX7 : Nat → FieldType := fun k => match k with
  | _ => .int
abbrev wsX70 : List Cond := u_ws RX7 TX7 1
theorem nmX7 : ∀ a, a < 1 → ∀ b, b < 1 → a ≠ b → (TX7 a).2.1 ≠ (TX7 b).2.1 := by decide +kernel
theorem tyX7_ok : ∀ k, k < 1 → parseFieldDescriptor (TX7 k).2.2.1 = some (tyX7 k) := by decide +kernel
abbrev cX7_init : ByteArray := prog_10_method_1_code
def yX7_init : MethodName := ⟨RX7, "<init>", "(I)V"⟩
abbrev cX7_of : ByteArray := prog_10_method_2_code
def yX7_of : MethodName := ⟨RX7, "of", "([I)J"⟩
theorem q125 : (Jvm.Cond.initialized "NineGraves$Plain") ∈ lw_all := lw_g (lw_at lw_m1 20 rfl) rfl
theorem q573 : (Jvm.Cond.instantiable "NineGraves$Plain" (1 : Nat)) ∈ lw_all := lw_g (lw_at lw_m2 228 rfl) rfl
theorem q579 : (Jvm.Cond.instanceMethod ({ cls := "NineGraves$Plain", name := "<init>", desc := "(I)V" } : Jvm.MethodName)) ∈ lw_all := lw_g (lw_at lw_m2 234 rfl) rfl
theorem q580 : (Jvm.Cond.code ({ cls := "NineGraves$Plain", name := "<init>", desc := "(I)V" } : Jvm.MethodName) prog_10_method_1_code (2 : Nat) (Option.none : Option Jvm.ClassFile.FieldType)) ∈ lw_all := lw_g (lw_at lw_m2 235 rfl) rfl
theorem q581 : (Jvm.Cond.methodLink "NineGraves$Plain" (1 : Nat) ({ cls := "java/lang/Record", name := "<init>", desc := "()V" } : Jvm.MethodName)) ∈ lw_all := lw_g (lw_at lw_m2 236 rfl) rfl
theorem q585 : (Jvm.Cond.fieldLink "NineGraves$Plain" (7 : Nat) "NineGraves$Plain" "n" "I") ∈ lw_all := lw_g (lw_at lw_m3 0 rfl) rfl
theorem q586 : (Jvm.Cond.laysFinal "NineGraves$Plain" "NineGraves$Plain" "n" "I") ∈ lw_all := lw_g (lw_at lw_m3 1 rfl) rfl
theorem q587 : (Jvm.Cond.soleField "NineGraves$Plain" "n") ∈ lw_all := lw_g (lw_at lw_m3 2 rfl) rfl
theorem q588 : (Jvm.Cond.superclass "NineGraves$Plain" "java/lang/Record") ∈ lw_all := lw_g (lw_at lw_m3 3 rfl) rfl
theorem q697 : (Jvm.Cond.selects "NineGraves$Plain" ({ cls := "java/lang/Object", name := "getClass", desc := "()Ljava/lang/Class;" } : Jvm.MethodName) ({ cls := "java/lang/Object", name := "getClass", desc := "()Ljava/lang/Class;" } : Jvm.MethodName)) ∈ lw_all := lw_g (lw_at lw_m3 112 rfl) rfl
theorem q921 : (Jvm.Cond.castable "NineGraves$Plain" "NineGraves$Sum") ∈ lw_tbl := lw_at lw_m4 96 rfl
theorem q922 : (Jvm.Cond.selects "NineGraves$Plain" ({ cls := "NineGraves$Sum", name := "of", desc := "([I)J" } : Jvm.MethodName) ({ cls := "NineGraves$Plain", name := "of", desc := "([I)J" } : Jvm.MethodName)) ∈ lw_all := lw_g (lw_at lw_m4 97 rfl) rfl
theorem q923 : (Jvm.Cond.unhidden "NineGraves$Plain" "of" "([I)J") ∈ lw_tbl := lw_at lw_m4 98 rfl
theorem q924 : (Jvm.Cond.instanceMethod ({ cls := "NineGraves$Plain", name := "of", desc := "([I)J" } : Jvm.MethodName)) ∈ lw_all := lw_g (lw_at lw_m4 99 rfl) rfl
theorem q925 : (Jvm.Cond.publicMethod ({ cls := "NineGraves$Plain", name := "of", desc := "([I)J" } : Jvm.MethodName)) ∈ lw_tbl := lw_at lw_m4 100 rfl
theorem q926 : (Jvm.Cond.code ({ cls := "NineGraves$Plain", name := "of", desc := "([I)J" } : Jvm.MethodName) prog_10_method_2_code (2 : Nat) (Option.some Jvm.ClassFile.FieldType.long)) ∈ lw_all := lw_g (lw_at lw_m4 101 rfl) rfl
theorem q1689 : (Jvm.Cond.castable "NineGraves$Plain" "java/lang/Object") ∈ lw_tbl := lw_at lw_m7 144 rfl
theorem in_X7 : ∀ w ∈ wsX70, w ∈ lw_all := lw_in wsX70 [586] (by decide +kernel) (by decide +kernel)
/-! NineGraves$Name -/
set_option maxRecDepth 100000
def RX8 : String := "NineGraves$Name"
def TX8 : u_T := fun k => match k with
  | _ => ("NineGraves$Name", "which", "I", true)
def tyX8 : Nat → FieldType := fun k => match k with
  | _ => .int
abbrev wsX80 : List Cond := u_ws RX8 TX8 1
theorem nmX8 : ∀ a, a < 1 → ∀ b, b < 1 → a ≠ b → (TX8 a).2.1 ≠ (TX8 b).2.1 := by decide +kernel
theorem tyX8_ok : ∀ k, k < 1 → parseFieldDescriptor (TX8 k).2.2.1 = some (tyX8 k) := by decide +kernel
abbrev cX8_init : ByteArray := prog_8_method_1_code
def yX8_init : MethodName := ⟨RX8, "<init>", "(I)V"⟩
abbrev cX8_of : ByteArray := prog_8_method_2_code
def yX8_of : MethodName := ⟨RX8, "of", "([I)J"⟩
theorem q126 : (Jvm.Cond.initialized "NineGraves$Name") ∈ lw_all := lw_g (lw_at lw_m1 21 rfl) rfl
theorem q590 : (Jvm.Cond.instantiable "NineGraves$Name" (1 : Nat)) ∈ lw_all := lw_g (lw_at lw_m3 5 rfl) rfl
theorem q592 : (Jvm.Cond.instanceMethod ({ cls := "NineGraves$Name", name := "<init>", desc := "(I)V" } : Jvm.MethodName)) ∈ lw_all := lw_g (lw_at lw_m3 7 rfl) rfl
theorem q593 : (Jvm.Cond.code ({ cls := "NineGraves$Name", name := "<init>", desc := "(I)V" } : Jvm.MethodName) prog_8_method_1_code (2 : Nat) (Option.none : Option Jvm.ClassFile.FieldType)) ∈ lw_all := lw_g (lw_at lw_m3 8 rfl) rfl
theorem q594 : (Jvm.Cond.methodLink "NineGraves$Name" (1 : Nat) ({ cls := "java/lang/Record", name := "<init>", desc := "()V" } : Jvm.MethodName)) ∈ lw_all := lw_g (lw_at lw_m3 9 rfl) rfl
theorem q595 : (Jvm.Cond.fieldLink "NineGraves$Name" (7 : Nat) "NineGraves$Name" "which" "I") ∈ lw_all := lw_g (lw_at lw_m3 10 rfl) rfl
theorem q596 : (Jvm.Cond.laysFinal "NineGraves$Name" "NineGraves$Name" "which" "I") ∈ lw_all := lw_g (lw_at lw_m3 11 rfl) rfl
theorem q597 : (Jvm.Cond.soleField "NineGraves$Name" "which") ∈ lw_all := lw_g (lw_at lw_m3 12 rfl) rfl
theorem q598 : (Jvm.Cond.superclass "NineGraves$Name" "java/lang/Record") ∈ lw_all := lw_g (lw_at lw_m3 13 rfl) rfl
theorem q695 : (Jvm.Cond.selects "NineGraves$Name" ({ cls := "java/lang/Object", name := "getClass", desc := "()Ljava/lang/Class;" } : Jvm.MethodName) ({ cls := "java/lang/Object", name := "getClass", desc := "()Ljava/lang/Class;" } : Jvm.MethodName)) ∈ lw_all := lw_g (lw_at lw_m3 110 rfl) rfl
theorem q915 : (Jvm.Cond.castable "NineGraves$Name" "NineGraves$Sum") ∈ lw_tbl := lw_at lw_m4 90 rfl
theorem q916 : (Jvm.Cond.selects "NineGraves$Name" ({ cls := "NineGraves$Sum", name := "of", desc := "([I)J" } : Jvm.MethodName) ({ cls := "NineGraves$Name", name := "of", desc := "([I)J" } : Jvm.MethodName)) ∈ lw_all := lw_g (lw_at lw_m4 91 rfl) rfl
theorem q917 : (Jvm.Cond.unhidden "NineGraves$Name" "of" "([I)J") ∈ lw_tbl := lw_at lw_m4 92 rfl
theorem q918 : (Jvm.Cond.instanceMethod ({ cls := "NineGraves$Name", name := "of", desc := "([I)J" } : Jvm.MethodName)) ∈ lw_all := lw_g (lw_at lw_m4 93 rfl) rfl
theorem q919 : (Jvm.Cond.publicMethod ({ cls := "NineGraves$Name", name := "of", desc := "([I)J" } : Jvm.MethodName)) ∈ lw_tbl := lw_at lw_m4 94 rfl
theorem q920 : (Jvm.Cond.code ({ cls := "NineGraves$Name", name := "of", desc := "([I)J" } : Jvm.MethodName) prog_8_method_2_code (2 : Nat) (Option.some Jvm.ClassFile.FieldType.long)) ∈ lw_all := lw_g (lw_at lw_m4 95 rfl) rfl
theorem q1690 : (Jvm.Cond.castable "NineGraves$Name" "java/lang/Object") ∈ lw_tbl := lw_at lw_m7 145 rfl
theorem in_X8 : ∀ w ∈ wsX80, w ∈ lw_all := lw_in wsX80 [596] (by decide +kernel) (by decide +kernel)
/-! NineGraves$Minus -/
set_option maxRecDepth 100000
def RX9 : String := "NineGraves$Minus"
def TX9 : u_T := fun k => match k with
  | _ => ("NineGraves$Minus", "x", "LNineGraves$Sum;", true)
def tyX9 : Nat → FieldType := fun k => match k with
  | _ => .object "NineGraves$Sum"
abbrev wsX90 : List Cond := u_ws RX9 TX9 1
theorem nmX9 : ∀ a, a < 1 → ∀ b, b < 1 → a ≠ b → (TX9 a).2.1 ≠ (TX9 b).2.1 := by decide +kernel
theorem tyX9_ok : ∀ k, k < 1 → parseFieldDescriptor (TX9 k).2.2.1 = some (tyX9 k) := by decide +kernel
abbrev cX9_init : ByteArray := prog_7_method_1_code
def yX9_init : MethodName := ⟨RX9, "<init>", "(LNineGraves$Sum;)V"⟩
abbrev cX9_of : ByteArray := prog_7_method_2_code
def yX9_of : MethodName := ⟨RX9, "of", "([I)J"⟩
theorem q127 : (Jvm.Cond.initialized "NineGraves$Minus") ∈ lw_all := lw_g (lw_at lw_m1 22 rfl) rfl
theorem q608 : (Jvm.Cond.instantiable "NineGraves$Minus" (1 : Nat)) ∈ lw_all := lw_g (lw_at lw_m3 23 rfl) rfl
theorem q610 : (Jvm.Cond.instanceMethod ({ cls := "NineGraves$Minus", name := "<init>", desc := "(LNineGraves$Sum;)V" } : Jvm.MethodName)) ∈ lw_all := lw_g (lw_at lw_m3 25 rfl) rfl
theorem q611 : (Jvm.Cond.code ({ cls := "NineGraves$Minus", name := "<init>", desc := "(LNineGraves$Sum;)V" } : Jvm.MethodName) prog_7_method_1_code (2 : Nat) (Option.none : Option Jvm.ClassFile.FieldType)) ∈ lw_all := lw_g (lw_at lw_m3 26 rfl) rfl
theorem q612 : (Jvm.Cond.methodLink "NineGraves$Minus" (1 : Nat) ({ cls := "java/lang/Record", name := "<init>", desc := "()V" } : Jvm.MethodName)) ∈ lw_all := lw_g (lw_at lw_m3 27 rfl) rfl
theorem q613 : (Jvm.Cond.fieldLink "NineGraves$Minus" (7 : Nat) "NineGraves$Minus" "x" "LNineGraves$Sum;") ∈ lw_all := lw_g (lw_at lw_m3 28 rfl) rfl
theorem q614 : (Jvm.Cond.laysFinal "NineGraves$Minus" "NineGraves$Minus" "x" "LNineGraves$Sum;") ∈ lw_all := lw_g (lw_at lw_m3 29 rfl) rfl
theorem q615 : (Jvm.Cond.soleField "NineGraves$Minus" "x") ∈ lw_all := lw_g (lw_at lw_m3 30 rfl) rfl
theorem q616 : (Jvm.Cond.superclass "NineGraves$Minus" "java/lang/Record") ∈ lw_all := lw_g (lw_at lw_m3 31 rfl) rfl
theorem q694 : (Jvm.Cond.selects "NineGraves$Minus" ({ cls := "java/lang/Object", name := "getClass", desc := "()Ljava/lang/Class;" } : Jvm.MethodName) ({ cls := "java/lang/Object", name := "getClass", desc := "()Ljava/lang/Class;" } : Jvm.MethodName)) ∈ lw_all := lw_g (lw_at lw_m3 109 rfl) rfl
theorem q907 : (Jvm.Cond.castable "NineGraves$Minus" "NineGraves$Sum") ∈ lw_tbl := lw_at lw_m4 82 rfl
theorem q908 : (Jvm.Cond.selects "NineGraves$Minus" ({ cls := "NineGraves$Sum", name := "of", desc := "([I)J" } : Jvm.MethodName) ({ cls := "NineGraves$Minus", name := "of", desc := "([I)J" } : Jvm.MethodName)) ∈ lw_all := lw_g (lw_at lw_m4 83 rfl) rfl
theorem q909 : (Jvm.Cond.unhidden "NineGraves$Minus" "of" "([I)J") ∈ lw_tbl := lw_at lw_m4 84 rfl
theorem q910 : (Jvm.Cond.instanceMethod ({ cls := "NineGraves$Minus", name := "of", desc := "([I)J" } : Jvm.MethodName)) ∈ lw_all := lw_g (lw_at lw_m4 85 rfl) rfl
theorem q911 : (Jvm.Cond.publicMethod ({ cls := "NineGraves$Minus", name := "of", desc := "([I)J" } : Jvm.MethodName)) ∈ lw_tbl := lw_at lw_m4 86 rfl
theorem q912 : (Jvm.Cond.code ({ cls := "NineGraves$Minus", name := "of", desc := "([I)J" } : Jvm.MethodName) prog_7_method_2_code (2 : Nat) (Option.some Jvm.ClassFile.FieldType.long)) ∈ lw_all := lw_g (lw_at lw_m4 87 rfl) rfl
theorem q913 : (Jvm.Cond.interfaceEntry "NineGraves$Minus" (13 : Nat)) ∈ lw_tbl := lw_at lw_m4 88 rfl
theorem q914 : (Jvm.Cond.methodLink "NineGraves$Minus" (13 : Nat) ({ cls := "NineGraves$Sum", name := "of", desc := "([I)J" } : Jvm.MethodName)) ∈ lw_all := lw_g (lw_at lw_m4 89 rfl) rfl
theorem q1691 : (Jvm.Cond.castable "NineGraves$Minus" "java/lang/Object") ∈ lw_tbl := lw_at lw_m7 146 rfl
theorem in_X9 : ∀ w ∈ wsX90, w ∈ lw_all := lw_in wsX90 [614] (by decide +kernel) (by decide +kernel)
/-! NineGraves$Not -/
set_option maxRecDepth 100000
def RX10 : String := "NineGraves$Not"
def TX10 : u_T := fun k => match k with
  | _ => ("NineGraves$Not", "x", "LNineGraves$Asked;", true)
def tyX10 : Nat → FieldType := fun k => match k with
  | _ => .object "NineGraves$Asked"
abbrev wsX100 : List Cond := u_ws RX10 TX10 1
theorem nmX10 : ∀ a, a < 1 → ∀ b, b < 1 → a ≠ b → (TX10 a).2.1 ≠ (TX10 b).2.1 := by decide +kernel
theorem tyX10_ok : ∀ k, k < 1 → parseFieldDescriptor (TX10 k).2.2.1 = some (tyX10 k) := by decide +kernel
abbrev cX10_init : ByteArray := prog_9_method_1_code
def yX10_init : MethodName := ⟨RX10, "<init>", "(LNineGraves$Asked;)V"⟩
abbrev cX10_is : ByteArray := prog_9_method_2_code
def yX10_is : MethodName := ⟨RX10, "is", "([I)Z"⟩
theorem q133 : (Jvm.Cond.initialized "NineGraves$Not") ∈ lw_all := lw_g (lw_at lw_m1 28 rfl) rfl
theorem q696 : (Jvm.Cond.selects "NineGraves$Not" ({ cls := "java/lang/Object", name := "getClass", desc := "()Ljava/lang/Class;" } : Jvm.MethodName) ({ cls := "java/lang/Object", name := "getClass", desc := "()Ljava/lang/Class;" } : Jvm.MethodName)) ∈ lw_all := lw_g (lw_at lw_m3 111 rfl) rfl
theorem q739 : (Jvm.Cond.instantiable "NineGraves$Not" (1 : Nat)) ∈ lw_all := lw_g (lw_at lw_m3 154 rfl) rfl
theorem q741 : (Jvm.Cond.instanceMethod ({ cls := "NineGraves$Not", name := "<init>", desc := "(LNineGraves$Asked;)V" } : Jvm.MethodName)) ∈ lw_all := lw_g (lw_at lw_m3 156 rfl) rfl
theorem q742 : (Jvm.Cond.code ({ cls := "NineGraves$Not", name := "<init>", desc := "(LNineGraves$Asked;)V" } : Jvm.MethodName) prog_9_method_1_code (2 : Nat) (Option.none : Option Jvm.ClassFile.FieldType)) ∈ lw_all := lw_g (lw_at lw_m3 157 rfl) rfl
theorem q743 : (Jvm.Cond.methodLink "NineGraves$Not" (1 : Nat) ({ cls := "java/lang/Record", name := "<init>", desc := "()V" } : Jvm.MethodName)) ∈ lw_all := lw_g (lw_at lw_m3 158 rfl) rfl
theorem q744 : (Jvm.Cond.fieldLink "NineGraves$Not" (7 : Nat) "NineGraves$Not" "x" "LNineGraves$Asked;") ∈ lw_all := lw_g (lw_at lw_m3 159 rfl) rfl
theorem q745 : (Jvm.Cond.laysFinal "NineGraves$Not" "NineGraves$Not" "x" "LNineGraves$Asked;") ∈ lw_all := lw_g (lw_at lw_m3 160 rfl) rfl
theorem q746 : (Jvm.Cond.soleField "NineGraves$Not" "x") ∈ lw_all := lw_g (lw_at lw_m3 161 rfl) rfl
theorem q747 : (Jvm.Cond.superclass "NineGraves$Not" "java/lang/Record") ∈ lw_all := lw_g (lw_at lw_m3 162 rfl) rfl
theorem q1016 : (Jvm.Cond.castable "NineGraves$Not" "NineGraves$Asked") ∈ lw_tbl := lw_at lw_m4 191 rfl
theorem q1017 : (Jvm.Cond.selects "NineGraves$Not" ({ cls := "NineGraves$Asked", name := "is", desc := "([I)Z" } : Jvm.MethodName) ({ cls := "NineGraves$Not", name := "is", desc := "([I)Z" } : Jvm.MethodName)) ∈ lw_all := lw_g (lw_at lw_m4 192 rfl) rfl
theorem q1018 : (Jvm.Cond.unhidden "NineGraves$Not" "is" "([I)Z") ∈ lw_tbl := lw_at lw_m4 193 rfl
theorem q1019 : (Jvm.Cond.instanceMethod ({ cls := "NineGraves$Not", name := "is", desc := "([I)Z" } : Jvm.MethodName)) ∈ lw_all := lw_g (lw_at lw_m4 194 rfl) rfl
theorem q1020 : (Jvm.Cond.publicMethod ({ cls := "NineGraves$Not", name := "is", desc := "([I)Z" } : Jvm.MethodName)) ∈ lw_tbl := lw_at lw_m4 195 rfl
theorem q1021 : (Jvm.Cond.code ({ cls := "NineGraves$Not", name := "is", desc := "([I)Z" } : Jvm.MethodName) prog_9_method_2_code (2 : Nat) (Option.some Jvm.ClassFile.FieldType.boolean)) ∈ lw_all := lw_g (lw_at lw_m4 196 rfl) rfl
theorem q1022 : (Jvm.Cond.interfaceEntry "NineGraves$Not" (13 : Nat)) ∈ lw_tbl := lw_at lw_m4 197 rfl
theorem q1023 : (Jvm.Cond.methodLink "NineGraves$Not" (13 : Nat) ({ cls := "NineGraves$Asked", name := "is", desc := "([I)Z" } : Jvm.MethodName)) ∈ lw_all := lw_g (lw_at lw_m4 198 rfl) rfl
theorem q1693 : (Jvm.Cond.castable "NineGraves$Not" "java/lang/Object") ∈ lw_tbl := lw_at lw_m7 148 rfl
theorem in_X10 : ∀ w ∈ wsX100, w ∈ lw_all := lw_in wsX100 [745] (by decide +kernel) (by decide +kernel)
/-! NineGraves$Compared -/
set_option maxRecDepth 100000
def RX11 : String := "NineGraves$Compared"
def TX11 : u_T := fun k => match k with
  | 0 => ("NineGraves$Compared", "sign", "I", true)
  | 1 => ("NineGraves$Compared", "a", "LNineGraves$Sum;", true)
  | _ => ("NineGraves$Compared", "b", "LNineGraves$Sum;", true)
def tyX11 : Nat → FieldType := fun k => match k with
  | 0 => .int
  | 1 => .object "NineGraves$Sum"
  | _ => .object "NineGraves$Sum"
abbrev wsX110 : List Cond := u_ws RX11 TX11 3
theorem nmX11 : ∀ a, a < 3 → ∀ b, b < 3 → a ≠ b → (TX11 a).2.1 ≠ (TX11 b).2.1 := by decide +kernel
theorem tyX11_ok : ∀ k, k < 3 → parseFieldDescriptor (TX11 k).2.2.1 = some (tyX11 k) := by decide +kernel
abbrev cX11_init : ByteArray := prog_5_method_1_code
def yX11_init : MethodName := ⟨RX11, "<init>", "(ILNineGraves$Sum;LNineGraves$Sum;)V"⟩
abbrev cX11_is : ByteArray := prog_5_method_2_code
def yX11_is : MethodName := ⟨RX11, "is", "([I)Z"⟩
theorem q134 : (Jvm.Cond.initialized "NineGraves$Compared") ∈ lw_all := lw_g (lw_at lw_m1 29 rfl) rfl
theorem q692 : (Jvm.Cond.selects "NineGraves$Compared" ({ cls := "java/lang/Object", name := "getClass", desc := "()Ljava/lang/Class;" } : Jvm.MethodName) ({ cls := "java/lang/Object", name := "getClass", desc := "()Ljava/lang/Class;" } : Jvm.MethodName)) ∈ lw_all := lw_g (lw_at lw_m3 107 rfl) rfl
theorem q749 : (Jvm.Cond.instantiable "NineGraves$Compared" (3 : Nat)) ∈ lw_all := lw_g (lw_at lw_m3 164 rfl) rfl
theorem q751 : (Jvm.Cond.instanceMethod ({ cls := "NineGraves$Compared", name := "<init>", desc := "(ILNineGraves$Sum;LNineGraves$Sum;)V" } : Jvm.MethodName)) ∈ lw_all := lw_g (lw_at lw_m3 166 rfl) rfl
theorem q752 : (Jvm.Cond.code ({ cls := "NineGraves$Compared", name := "<init>", desc := "(ILNineGraves$Sum;LNineGraves$Sum;)V" } : Jvm.MethodName) prog_5_method_1_code (4 : Nat) (Option.none : Option Jvm.ClassFile.FieldType)) ∈ lw_all := lw_g (lw_at lw_m3 167 rfl) rfl
theorem q753 : (Jvm.Cond.methodLink "NineGraves$Compared" (1 : Nat) ({ cls := "java/lang/Record", name := "<init>", desc := "()V" } : Jvm.MethodName)) ∈ lw_all := lw_g (lw_at lw_m3 168 rfl) rfl
theorem q754 : (Jvm.Cond.fieldLink "NineGraves$Compared" (7 : Nat) "NineGraves$Compared" "sign" "I") ∈ lw_all := lw_g (lw_at lw_m3 169 rfl) rfl
theorem q755 : (Jvm.Cond.fieldLink "NineGraves$Compared" (13 : Nat) "NineGraves$Compared" "a" "LNineGraves$Sum;") ∈ lw_all := lw_g (lw_at lw_m3 170 rfl) rfl
theorem q756 : (Jvm.Cond.fieldLink "NineGraves$Compared" (17 : Nat) "NineGraves$Compared" "b" "LNineGraves$Sum;") ∈ lw_all := lw_g (lw_at lw_m3 171 rfl) rfl
theorem q757 : (Jvm.Cond.laysFinal "NineGraves$Compared" "NineGraves$Compared" "sign" "I") ∈ lw_all := lw_g (lw_at lw_m3 172 rfl) rfl
theorem q758 : (Jvm.Cond.soleField "NineGraves$Compared" "sign") ∈ lw_all := lw_g (lw_at lw_m3 173 rfl) rfl
theorem q759 : (Jvm.Cond.laysFinal "NineGraves$Compared" "NineGraves$Compared" "a" "LNineGraves$Sum;") ∈ lw_all := lw_g (lw_at lw_m3 174 rfl) rfl
theorem q760 : (Jvm.Cond.soleField "NineGraves$Compared" "a") ∈ lw_all := lw_g (lw_at lw_m3 175 rfl) rfl
theorem q761 : (Jvm.Cond.laysFinal "NineGraves$Compared" "NineGraves$Compared" "b" "LNineGraves$Sum;") ∈ lw_all := lw_g (lw_at lw_m3 176 rfl) rfl
theorem q762 : (Jvm.Cond.soleField "NineGraves$Compared" "b") ∈ lw_all := lw_g (lw_at lw_m3 177 rfl) rfl
theorem q763 : (Jvm.Cond.superclass "NineGraves$Compared" "java/lang/Record") ∈ lw_all := lw_g (lw_at lw_m3 178 rfl) rfl
theorem q1008 : (Jvm.Cond.castable "NineGraves$Compared" "NineGraves$Asked") ∈ lw_tbl := lw_at lw_m4 183 rfl
theorem q1009 : (Jvm.Cond.selects "NineGraves$Compared" ({ cls := "NineGraves$Asked", name := "is", desc := "([I)Z" } : Jvm.MethodName) ({ cls := "NineGraves$Compared", name := "is", desc := "([I)Z" } : Jvm.MethodName)) ∈ lw_all := lw_g (lw_at lw_m4 184 rfl) rfl
theorem q1010 : (Jvm.Cond.unhidden "NineGraves$Compared" "is" "([I)Z") ∈ lw_tbl := lw_at lw_m4 185 rfl
theorem q1011 : (Jvm.Cond.instanceMethod ({ cls := "NineGraves$Compared", name := "is", desc := "([I)Z" } : Jvm.MethodName)) ∈ lw_all := lw_g (lw_at lw_m4 186 rfl) rfl
theorem q1012 : (Jvm.Cond.publicMethod ({ cls := "NineGraves$Compared", name := "is", desc := "([I)Z" } : Jvm.MethodName)) ∈ lw_tbl := lw_at lw_m4 187 rfl
theorem q1013 : (Jvm.Cond.code ({ cls := "NineGraves$Compared", name := "is", desc := "([I)Z" } : Jvm.MethodName) prog_5_method_2_code (4 : Nat) (Option.some Jvm.ClassFile.FieldType.boolean)) ∈ lw_all := lw_g (lw_at lw_m4 188 rfl) rfl
theorem q1014 : (Jvm.Cond.interfaceEntry "NineGraves$Compared" (20 : Nat)) ∈ lw_tbl := lw_at lw_m4 189 rfl
theorem q1015 : (Jvm.Cond.methodLink "NineGraves$Compared" (20 : Nat) ({ cls := "NineGraves$Sum", name := "of", desc := "([I)J" } : Jvm.MethodName)) ∈ lw_all := lw_g (lw_at lw_m4 190 rfl) rfl
theorem q1694 : (Jvm.Cond.castable "NineGraves$Compared" "java/lang/Object") ∈ lw_tbl := lw_at lw_m7 149 rfl
theorem in_X11 : ∀ w ∈ wsX110, w ∈ lw_all := lw_in wsX110 [757, 759, 761] (by decide +kernel) (by decide +kernel)
/-! NineGraves$All -/
set_option maxRecDepth 100000
def RX12 : String := "NineGraves$All"
def TX12 : u_T := fun k => match k with
  | 0 => ("NineGraves$All", "and", "Z", true)
  | _ => ("NineGraves$All", "of", "Ljava/util/ArrayList;", true)
def tyX12 : Nat → FieldType := fun k => match k with
  | 0 => .boolean
  | _ => .object "java/util/ArrayList"
abbrev wsX120 : List Cond := u_ws RX12 TX12 2
theorem nmX12 : ∀ a, a < 2 → ∀ b, b < 2 → a ≠ b → (TX12 a).2.1 ≠ (TX12 b).2.1 := by decide +kernel
theorem tyX12_ok : ∀ k, k < 2 → parseFieldDescriptor (TX12 k).2.2.1 = some (tyX12 k) := by decide +kernel
abbrev cX12_init : ByteArray := prog_2_method_1_code
def yX12_init : MethodName := ⟨RX12, "<init>", "(ZLjava/util/ArrayList;)V"⟩
abbrev cX12_is : ByteArray := prog_2_method_2_code
def yX12_is : MethodName := ⟨RX12, "is", "([I)Z"⟩
theorem q136 : (Jvm.Cond.initialized "NineGraves$All") ∈ lw_all := lw_g (lw_at lw_m1 31 rfl) rfl
theorem q690 : (Jvm.Cond.selects "NineGraves$All" ({ cls := "java/lang/Object", name := "getClass", desc := "()Ljava/lang/Class;" } : Jvm.MethodName) ({ cls := "java/lang/Object", name := "getClass", desc := "()Ljava/lang/Class;" } : Jvm.MethodName)) ∈ lw_all := lw_g (lw_at lw_m3 105 rfl) rfl
theorem q783 : (Jvm.Cond.instantiable "NineGraves$All" (2 : Nat)) ∈ lw_all := lw_g (lw_at lw_m3 198 rfl) rfl
theorem q785 : (Jvm.Cond.instanceMethod ({ cls := "NineGraves$All", name := "<init>", desc := "(ZLjava/util/ArrayList;)V" } : Jvm.MethodName)) ∈ lw_all := lw_g (lw_at lw_m3 200 rfl) rfl
theorem q786 : (Jvm.Cond.code ({ cls := "NineGraves$All", name := "<init>", desc := "(ZLjava/util/ArrayList;)V" } : Jvm.MethodName) prog_2_method_1_code (3 : Nat) (Option.none : Option Jvm.ClassFile.FieldType)) ∈ lw_all := lw_g (lw_at lw_m3 201 rfl) rfl
theorem q787 : (Jvm.Cond.methodLink "NineGraves$All" (1 : Nat) ({ cls := "java/lang/Record", name := "<init>", desc := "()V" } : Jvm.MethodName)) ∈ lw_all := lw_g (lw_at lw_m3 202 rfl) rfl
theorem q788 : (Jvm.Cond.fieldLink "NineGraves$All" (7 : Nat) "NineGraves$All" "and" "Z") ∈ lw_all := lw_g (lw_at lw_m3 203 rfl) rfl
theorem q789 : (Jvm.Cond.fieldLink "NineGraves$All" (13 : Nat) "NineGraves$All" "of" "Ljava/util/ArrayList;") ∈ lw_all := lw_g (lw_at lw_m3 204 rfl) rfl
theorem q790 : (Jvm.Cond.laysFinal "NineGraves$All" "NineGraves$All" "and" "Z") ∈ lw_all := lw_g (lw_at lw_m3 205 rfl) rfl
theorem q791 : (Jvm.Cond.soleField "NineGraves$All" "and") ∈ lw_all := lw_g (lw_at lw_m3 206 rfl) rfl
theorem q792 : (Jvm.Cond.laysFinal "NineGraves$All" "NineGraves$All" "of" "Ljava/util/ArrayList;") ∈ lw_all := lw_g (lw_at lw_m3 207 rfl) rfl
theorem q793 : (Jvm.Cond.soleField "NineGraves$All" "of") ∈ lw_all := lw_g (lw_at lw_m3 208 rfl) rfl
theorem q794 : (Jvm.Cond.superclass "NineGraves$All" "java/lang/Record") ∈ lw_all := lw_g (lw_at lw_m3 209 rfl) rfl
theorem q997 : (Jvm.Cond.castable "NineGraves$All" "NineGraves$Asked") ∈ lw_tbl := lw_at lw_m4 172 rfl
theorem q998 : (Jvm.Cond.selects "NineGraves$All" ({ cls := "NineGraves$Asked", name := "is", desc := "([I)Z" } : Jvm.MethodName) ({ cls := "NineGraves$All", name := "is", desc := "([I)Z" } : Jvm.MethodName)) ∈ lw_all := lw_g (lw_at lw_m4 173 rfl) rfl
theorem q999 : (Jvm.Cond.unhidden "NineGraves$All" "is" "([I)Z") ∈ lw_tbl := lw_at lw_m4 174 rfl
theorem q1000 : (Jvm.Cond.instanceMethod ({ cls := "NineGraves$All", name := "is", desc := "([I)Z" } : Jvm.MethodName)) ∈ lw_all := lw_g (lw_at lw_m4 175 rfl) rfl
theorem q1001 : (Jvm.Cond.publicMethod ({ cls := "NineGraves$All", name := "is", desc := "([I)Z" } : Jvm.MethodName)) ∈ lw_tbl := lw_at lw_m4 176 rfl
theorem q1002 : (Jvm.Cond.code ({ cls := "NineGraves$All", name := "is", desc := "([I)Z" } : Jvm.MethodName) prog_2_method_2_code (4 : Nat) (Option.some Jvm.ClassFile.FieldType.boolean)) ∈ lw_all := lw_g (lw_at lw_m4 177 rfl) rfl
theorem q1003 : (Jvm.Cond.methodLink "NineGraves$All" (17 : Nat) ({ cls := "java/util/ArrayList", name := "size", desc := "()I" } : Jvm.MethodName)) ∈ lw_all := lw_g (lw_at lw_m4 178 rfl) rfl
theorem q1004 : (Jvm.Cond.methodLink "NineGraves$All" (23 : Nat) ({ cls := "java/util/ArrayList", name := "get", desc := "(I)Ljava/lang/Object;" } : Jvm.MethodName)) ∈ lw_all := lw_g (lw_at lw_m4 179 rfl) rfl
theorem q1005 : (Jvm.Cond.classLink "NineGraves$All" (27 : Nat) "NineGraves$Asked") ∈ lw_all := lw_g (lw_at lw_m4 180 rfl) rfl
theorem q1006 : (Jvm.Cond.interfaceEntry "NineGraves$All" (29 : Nat)) ∈ lw_tbl := lw_at lw_m4 181 rfl
theorem q1007 : (Jvm.Cond.methodLink "NineGraves$All" (29 : Nat) ({ cls := "NineGraves$Asked", name := "is", desc := "([I)Z" } : Jvm.MethodName)) ∈ lw_all := lw_g (lw_at lw_m4 182 rfl) rfl
theorem q1695 : (Jvm.Cond.castable "NineGraves$All" "java/lang/Object") ∈ lw_tbl := lw_at lw_m7 150 rfl
theorem in_X12 : ∀ w ∈ wsX120, w ∈ lw_all := lw_in wsX120 [790, 792] (by decide +kernel) (by decide +kernel)
/-! NineGraves$Doing -/
set_option maxRecDepth 100000
def RX13 : String := "NineGraves$Doing"
def TX13 : u_T := fun k => match k with
  | 0 => ("NineGraves$Doing", "sort", "I", true)
  | 1 => ("NineGraves$Doing", "a", "I", true)
  | 2 => ("NineGraves$Doing", "b", "I", true)
  | 3 => ("NineGraves$Doing", "c", "I", true)
  | _ => ("NineGraves$Doing", "number", "I", true)
def tyX13 : Nat → FieldType := fun k => match k with
  | 0 => .int
  | 1 => .int
  | 2 => .int
  | 3 => .int
  | _ => .int
abbrev wsX130 : List Cond := u_ws RX13 TX13 5
theorem nmX13 : ∀ a, a < 5 → ∀ b, b < 5 → a ≠ b → (TX13 a).2.1 ≠ (TX13 b).2.1 := by decide +kernel
theorem tyX13_ok : ∀ k, k < 5 → parseFieldDescriptor (TX13 k).2.2.1 = some (tyX13 k) := by decide +kernel
abbrev cX13_init : ByteArray := prog_6_method_1_code
def yX13_init : MethodName := ⟨RX13, "<init>", "(IIIII)V"⟩
abbrev cX13_sort : ByteArray := prog_6_method_5_code
def yX13_sort : MethodName := ⟨RX13, "sort", "()I"⟩
abbrev cX13_a : ByteArray := prog_6_method_6_code
def yX13_a : MethodName := ⟨RX13, "a", "()I"⟩
abbrev cX13_b : ByteArray := prog_6_method_7_code
def yX13_b : MethodName := ⟨RX13, "b", "()I"⟩
abbrev cX13_c : ByteArray := prog_6_method_8_code
def yX13_c : MethodName := ⟨RX13, "c", "()I"⟩
abbrev cX13_number : ByteArray := prog_6_method_9_code
def yX13_number : MethodName := ⟨RX13, "number", "()I"⟩
theorem q137 : (Jvm.Cond.initialized "NineGraves$Doing") ∈ lw_all := lw_g (lw_at lw_m1 32 rfl) rfl
theorem q693 : (Jvm.Cond.selects "NineGraves$Doing" ({ cls := "java/lang/Object", name := "getClass", desc := "()Ljava/lang/Class;" } : Jvm.MethodName) ({ cls := "java/lang/Object", name := "getClass", desc := "()Ljava/lang/Class;" } : Jvm.MethodName)) ∈ lw_all := lw_g (lw_at lw_m3 108 rfl) rfl
theorem q804 : (Jvm.Cond.instantiable "NineGraves$Doing" (5 : Nat)) ∈ lw_all := lw_g (lw_at lw_m3 219 rfl) rfl
theorem q806 : (Jvm.Cond.instanceMethod ({ cls := "NineGraves$Doing", name := "<init>", desc := "(IIIII)V" } : Jvm.MethodName)) ∈ lw_all := lw_g (lw_at lw_m3 221 rfl) rfl
theorem q807 : (Jvm.Cond.code ({ cls := "NineGraves$Doing", name := "<init>", desc := "(IIIII)V" } : Jvm.MethodName) prog_6_method_1_code (6 : Nat) (Option.none : Option Jvm.ClassFile.FieldType)) ∈ lw_all := lw_g (lw_at lw_m3 222 rfl) rfl
theorem q808 : (Jvm.Cond.methodLink "NineGraves$Doing" (1 : Nat) ({ cls := "java/lang/Record", name := "<init>", desc := "()V" } : Jvm.MethodName)) ∈ lw_all := lw_g (lw_at lw_m3 223 rfl) rfl
theorem q809 : (Jvm.Cond.fieldLink "NineGraves$Doing" (7 : Nat) "NineGraves$Doing" "sort" "I") ∈ lw_all := lw_g (lw_at lw_m3 224 rfl) rfl
theorem q810 : (Jvm.Cond.fieldLink "NineGraves$Doing" (13 : Nat) "NineGraves$Doing" "a" "I") ∈ lw_all := lw_g (lw_at lw_m3 225 rfl) rfl
theorem q811 : (Jvm.Cond.fieldLink "NineGraves$Doing" (16 : Nat) "NineGraves$Doing" "b" "I") ∈ lw_all := lw_g (lw_at lw_m3 226 rfl) rfl
theorem q812 : (Jvm.Cond.fieldLink "NineGraves$Doing" (19 : Nat) "NineGraves$Doing" "c" "I") ∈ lw_all := lw_g (lw_at lw_m3 227 rfl) rfl
theorem q813 : (Jvm.Cond.fieldLink "NineGraves$Doing" (22 : Nat) "NineGraves$Doing" "number" "I") ∈ lw_all := lw_g (lw_at lw_m3 228 rfl) rfl
theorem q814 : (Jvm.Cond.laysFinal "NineGraves$Doing" "NineGraves$Doing" "sort" "I") ∈ lw_all := lw_g (lw_at lw_m3 229 rfl) rfl
theorem q815 : (Jvm.Cond.soleField "NineGraves$Doing" "sort") ∈ lw_all := lw_g (lw_at lw_m3 230 rfl) rfl
theorem q816 : (Jvm.Cond.laysFinal "NineGraves$Doing" "NineGraves$Doing" "a" "I") ∈ lw_all := lw_g (lw_at lw_m3 231 rfl) rfl
theorem q817 : (Jvm.Cond.soleField "NineGraves$Doing" "a") ∈ lw_all := lw_g (lw_at lw_m3 232 rfl) rfl
theorem q818 : (Jvm.Cond.laysFinal "NineGraves$Doing" "NineGraves$Doing" "b" "I") ∈ lw_all := lw_g (lw_at lw_m3 233 rfl) rfl
theorem q819 : (Jvm.Cond.soleField "NineGraves$Doing" "b") ∈ lw_all := lw_g (lw_at lw_m3 234 rfl) rfl
theorem q820 : (Jvm.Cond.laysFinal "NineGraves$Doing" "NineGraves$Doing" "c" "I") ∈ lw_all := lw_g (lw_at lw_m3 235 rfl) rfl
theorem q821 : (Jvm.Cond.soleField "NineGraves$Doing" "c") ∈ lw_all := lw_g (lw_at lw_m3 236 rfl) rfl
theorem q822 : (Jvm.Cond.laysFinal "NineGraves$Doing" "NineGraves$Doing" "number" "I") ∈ lw_all := lw_g (lw_at lw_m3 237 rfl) rfl
theorem q823 : (Jvm.Cond.soleField "NineGraves$Doing" "number") ∈ lw_all := lw_g (lw_at lw_m3 238 rfl) rfl
theorem q824 : (Jvm.Cond.superclass "NineGraves$Doing" "java/lang/Record") ∈ lw_all := lw_g (lw_at lw_m3 239 rfl) rfl
theorem q957 : (Jvm.Cond.instanceMethod ({ cls := "NineGraves$Doing", name := "sort", desc := "()I" } : Jvm.MethodName)) ∈ lw_all := lw_g (lw_at lw_m4 132 rfl) rfl
theorem q958 : (Jvm.Cond.selects "NineGraves$Doing" ({ cls := "NineGraves$Doing", name := "sort", desc := "()I" } : Jvm.MethodName) ({ cls := "NineGraves$Doing", name := "sort", desc := "()I" } : Jvm.MethodName)) ∈ lw_all := lw_g (lw_at lw_m4 133 rfl) rfl
theorem q959 : (Jvm.Cond.code ({ cls := "NineGraves$Doing", name := "sort", desc := "()I" } : Jvm.MethodName) prog_6_method_5_code (1 : Nat) (Option.some Jvm.ClassFile.FieldType.int)) ∈ lw_all := lw_g (lw_at lw_m4 134 rfl) rfl
theorem q961 : (Jvm.Cond.instanceMethod ({ cls := "NineGraves$Doing", name := "a", desc := "()I" } : Jvm.MethodName)) ∈ lw_all := lw_g (lw_at lw_m4 136 rfl) rfl
theorem q962 : (Jvm.Cond.selects "NineGraves$Doing" ({ cls := "NineGraves$Doing", name := "a", desc := "()I" } : Jvm.MethodName) ({ cls := "NineGraves$Doing", name := "a", desc := "()I" } : Jvm.MethodName)) ∈ lw_all := lw_g (lw_at lw_m4 137 rfl) rfl
theorem q963 : (Jvm.Cond.code ({ cls := "NineGraves$Doing", name := "a", desc := "()I" } : Jvm.MethodName) prog_6_method_6_code (1 : Nat) (Option.some Jvm.ClassFile.FieldType.int)) ∈ lw_all := lw_g (lw_at lw_m4 138 rfl) rfl
theorem q965 : (Jvm.Cond.instanceMethod ({ cls := "NineGraves$Doing", name := "b", desc := "()I" } : Jvm.MethodName)) ∈ lw_all := lw_g (lw_at lw_m4 140 rfl) rfl
theorem q966 : (Jvm.Cond.selects "NineGraves$Doing" ({ cls := "NineGraves$Doing", name := "b", desc := "()I" } : Jvm.MethodName) ({ cls := "NineGraves$Doing", name := "b", desc := "()I" } : Jvm.MethodName)) ∈ lw_all := lw_g (lw_at lw_m4 141 rfl) rfl
theorem q967 : (Jvm.Cond.code ({ cls := "NineGraves$Doing", name := "b", desc := "()I" } : Jvm.MethodName) prog_6_method_7_code (1 : Nat) (Option.some Jvm.ClassFile.FieldType.int)) ∈ lw_all := lw_g (lw_at lw_m4 142 rfl) rfl
theorem q969 : (Jvm.Cond.instanceMethod ({ cls := "NineGraves$Doing", name := "c", desc := "()I" } : Jvm.MethodName)) ∈ lw_all := lw_g (lw_at lw_m4 144 rfl) rfl
theorem q970 : (Jvm.Cond.selects "NineGraves$Doing" ({ cls := "NineGraves$Doing", name := "c", desc := "()I" } : Jvm.MethodName) ({ cls := "NineGraves$Doing", name := "c", desc := "()I" } : Jvm.MethodName)) ∈ lw_all := lw_g (lw_at lw_m4 145 rfl) rfl
theorem q971 : (Jvm.Cond.code ({ cls := "NineGraves$Doing", name := "c", desc := "()I" } : Jvm.MethodName) prog_6_method_8_code (1 : Nat) (Option.some Jvm.ClassFile.FieldType.int)) ∈ lw_all := lw_g (lw_at lw_m4 146 rfl) rfl
theorem q977 : (Jvm.Cond.instanceMethod ({ cls := "NineGraves$Doing", name := "number", desc := "()I" } : Jvm.MethodName)) ∈ lw_all := lw_g (lw_at lw_m4 152 rfl) rfl
theorem q978 : (Jvm.Cond.selects "NineGraves$Doing" ({ cls := "NineGraves$Doing", name := "number", desc := "()I" } : Jvm.MethodName) ({ cls := "NineGraves$Doing", name := "number", desc := "()I" } : Jvm.MethodName)) ∈ lw_all := lw_g (lw_at lw_m4 153 rfl) rfl
theorem q979 : (Jvm.Cond.code ({ cls := "NineGraves$Doing", name := "number", desc := "()I" } : Jvm.MethodName) prog_6_method_9_code (1 : Nat) (Option.some Jvm.ClassFile.FieldType.int)) ∈ lw_all := lw_g (lw_at lw_m4 154 rfl) rfl
theorem q1696 : (Jvm.Cond.castable "NineGraves$Doing" "java/lang/Object") ∈ lw_tbl := lw_at lw_m7 151 rfl
theorem in_X13 : ∀ w ∈ wsX130, w ∈ lw_all := lw_in wsX130 [814, 816, 818, 820, 822] (by decide +kernel) (by decide +kernel)
/-! java/util/AbstractCollection -/
set_option maxRecDepth 100000
def RJ0 : String := "java/util/AbstractCollection"
abbrev cJ0_init : ByteArray := prog_36_method_1_code
def yJ0_init : MethodName := ⟨RJ0, "<init>", "()V"⟩
theorem q112 : (Jvm.Cond.initialized "java/util/AbstractCollection") ∈ lw_all := lw_g (lw_at lw_m1 7 rfl) rfl
theorem q374 : (Jvm.Cond.instanceMethod ({ cls := "java/util/AbstractCollection", name := "<init>", desc := "()V" } : Jvm.MethodName)) ∈ lw_all := lw_g (lw_at lw_m2 29 rfl) rfl
theorem q375 : (Jvm.Cond.code ({ cls := "java/util/AbstractCollection", name := "<init>", desc := "()V" } : Jvm.MethodName) prog_36_method_1_code (1 : Nat) (Option.none : Option Jvm.ClassFile.FieldType)) ∈ lw_all := lw_g (lw_at lw_m2 30 rfl) rfl
theorem q376 : (Jvm.Cond.methodLink "java/util/AbstractCollection" (1 : Nat) ({ cls := "java/lang/Object", name := "<init>", desc := "()V" } : Jvm.MethodName)) ∈ lw_all := lw_g (lw_at lw_m2 31 rfl) rfl
/-! java/util/AbstractList -/
set_option maxRecDepth 100000
def RJ1 : String := "java/util/AbstractList"
abbrev cJ1_init : ByteArray := prog_37_method_1_code
def yJ1_init : MethodName := ⟨RJ1, "<init>", "()V"⟩
theorem q113 : (Jvm.Cond.initialized "java/util/AbstractList") ∈ lw_all := lw_g (lw_at lw_m1 8 rfl) rfl
theorem q371 : (Jvm.Cond.instanceMethod ({ cls := "java/util/AbstractList", name := "<init>", desc := "()V" } : Jvm.MethodName)) ∈ lw_all := lw_g (lw_at lw_m2 26 rfl) rfl
theorem q372 : (Jvm.Cond.code ({ cls := "java/util/AbstractList", name := "<init>", desc := "()V" } : Jvm.MethodName) prog_37_method_1_code (1 : Nat) (Option.none : Option Jvm.ClassFile.FieldType)) ∈ lw_all := lw_g (lw_at lw_m2 27 rfl) rfl
theorem q373 : (Jvm.Cond.methodLink "java/util/AbstractList" (1 : Nat) ({ cls := "java/util/AbstractCollection", name := "<init>", desc := "()V" } : Jvm.MethodName)) ∈ lw_all := lw_g (lw_at lw_m2 28 rfl) rfl
theorem q381 : (Jvm.Cond.fieldLink "java/util/AbstractList" (7 : Nat) "java/util/AbstractList" "modCount" "I") ∈ lw_all := lw_g (lw_at lw_m2 36 rfl) rfl
theorem q389 : (Jvm.Cond.soleField "java/util/AbstractList" "modCount") ∈ lw_all := lw_g (lw_at lw_m2 44 rfl) rfl
/-! java/util/ArrayList -/
set_option maxRecDepth 100000
def RJ2 : String := "java/util/ArrayList"
def TJ2 : u_T := fun k => match k with
  | 0 => ("java/util/AbstractList", "modCount", "I", false)
  | 1 => ("java/util/ArrayList", "elementData", "[Ljava/lang/Object;", false)
  | _ => ("java/util/ArrayList", "size", "I", false)
def tyJ2 : Nat → FieldType := fun k => match k with
  | 0 => .int
  | 1 => .array (.object "java/lang/Object")
  | _ => .int
abbrev wsJ20 : List Cond := u_ws RJ2 TJ2 3
theorem nmJ2 : ∀ a, a < 3 → ∀ b, b < 3 → a ≠ b → (TJ2 a).2.1 ≠ (TJ2 b).2.1 := by decide +kernel
theorem tyJ2_ok : ∀ k, k < 3 → parseFieldDescriptor (TJ2 k).2.2.1 = some (tyJ2 k) := by decide +kernel
abbrev cJ2_init : ByteArray := prog_38_method_2_code
def yJ2_init : MethodName := ⟨RJ2, "<init>", "()V"⟩
abbrev cJ2_add : ByteArray := prog_38_method_25_code
def yJ2_add : MethodName := ⟨RJ2, "add", "(Ljava/lang/Object;)Z"⟩
abbrev cJ2_add_2 : ByteArray := prog_38_method_24_code
def yJ2_add_2 : MethodName := ⟨RJ2, "add", "(Ljava/lang/Object;[Ljava/lang/Object;I)V"⟩
abbrev cJ2_grow : ByteArray := prog_38_method_7_code
def yJ2_grow : MethodName := ⟨RJ2, "grow", "()[Ljava/lang/Object;"⟩
abbrev cJ2_grow_2 : ByteArray := prog_38_method_6_code
def yJ2_grow_2 : MethodName := ⟨RJ2, "grow", "(I)[Ljava/lang/Object;"⟩
abbrev cJ2_isEmpty : ByteArray := prog_38_method_9_code
def yJ2_isEmpty : MethodName := ⟨RJ2, "isEmpty", "()Z"⟩
abbrev cJ2_size : ByteArray := prog_38_method_8_code
def yJ2_size : MethodName := ⟨RJ2, "size", "()I"⟩
abbrev cJ2_get : ByteArray := prog_38_method_20_code
def yJ2_get : MethodName := ⟨RJ2, "get", "(I)Ljava/lang/Object;"⟩
abbrev cJ2_elementData : ByteArray := prog_38_method_18_code
def yJ2_elementData : MethodName := ⟨RJ2, "elementData", "(I)Ljava/lang/Object;"⟩
theorem q114 : (Jvm.Cond.initialized "java/util/ArrayList") ∈ lw_all := lw_g (lw_at lw_m1 9 rfl) rfl
theorem q366 : (Jvm.Cond.instantiable "java/util/ArrayList" (3 : Nat)) ∈ lw_all := lw_g (lw_at lw_m2 21 rfl) rfl
theorem q368 : (Jvm.Cond.instanceMethod ({ cls := "java/util/ArrayList", name := "<init>", desc := "()V" } : Jvm.MethodName)) ∈ lw_all := lw_g (lw_at lw_m2 23 rfl) rfl
theorem q369 : (Jvm.Cond.code ({ cls := "java/util/ArrayList", name := "<init>", desc := "()V" } : Jvm.MethodName) prog_38_method_2_code (1 : Nat) (Option.none : Option Jvm.ClassFile.FieldType)) ∈ lw_all := lw_g (lw_at lw_m2 24 rfl) rfl
theorem q370 : (Jvm.Cond.methodLink "java/util/ArrayList" (1 : Nat) ({ cls := "java/util/AbstractList", name := "<init>", desc := "()V" } : Jvm.MethodName)) ∈ lw_all := lw_g (lw_at lw_m2 25 rfl) rfl
theorem q377 : (Jvm.Cond.fieldLink "java/util/ArrayList" (39 : Nat) "java/util/ArrayList" "DEFAULTCAPACITY_EMPTY_ELEMENTDATA" "[Ljava/lang/Object;") ∈ lw_all := lw_g (lw_at lw_m2 32 rfl) rfl
theorem q378 : (Jvm.Cond.laysStatic "java/util/ArrayList" "DEFAULTCAPACITY_EMPTY_ELEMENTDATA" "[Ljava/lang/Object;") ∈ lw_tbl := lw_at lw_m2 33 rfl
theorem q379 : (Jvm.Cond.fieldLink "java/util/ArrayList" (9 : Nat) "java/util/ArrayList" "elementData" "[Ljava/lang/Object;") ∈ lw_all := lw_g (lw_at lw_m2 34 rfl) rfl
theorem q380 : (Jvm.Cond.fieldLink "java/util/ArrayList" (48 : Nat) "java/util/ArrayList" "size" "I") ∈ lw_all := lw_g (lw_at lw_m2 35 rfl) rfl
theorem q382 : (Jvm.Cond.fieldLink "java/util/ArrayList" (63 : Nat) "java/util/ArrayList" "modCount" "I") ∈ lw_all := lw_g (lw_at lw_m2 37 rfl) rfl
theorem q383 : (Jvm.Cond.sameField "java/util/ArrayList" "java/util/AbstractList" "modCount" "I") ∈ lw_all := lw_g (lw_at lw_m2 38 rfl) rfl
theorem q384 : (Jvm.Cond.lays "java/util/ArrayList" "java/util/ArrayList" "elementData" "[Ljava/lang/Object;") ∈ lw_all := lw_g (lw_at lw_m2 39 rfl) rfl
theorem q385 : (Jvm.Cond.soleField "java/util/ArrayList" "elementData") ∈ lw_all := lw_g (lw_at lw_m2 40 rfl) rfl
theorem q386 : (Jvm.Cond.lays "java/util/ArrayList" "java/util/ArrayList" "size" "I") ∈ lw_all := lw_g (lw_at lw_m2 41 rfl) rfl
theorem q387 : (Jvm.Cond.soleField "java/util/ArrayList" "size") ∈ lw_all := lw_g (lw_at lw_m2 42 rfl) rfl
theorem q388 : (Jvm.Cond.lays "java/util/ArrayList" "java/util/AbstractList" "modCount" "I") ∈ lw_all := lw_g (lw_at lw_m2 43 rfl) rfl
theorem q390 : (Jvm.Cond.superclass "java/util/ArrayList" "java/util/AbstractList") ∈ lw_all := lw_g (lw_at lw_m2 45 rfl) rfl
theorem q658 : (Jvm.Cond.instanceMethod ({ cls := "java/util/ArrayList", name := "add", desc := "(Ljava/lang/Object;)Z" } : Jvm.MethodName)) ∈ lw_all := lw_g (lw_at lw_m3 73 rfl) rfl
theorem q659 : (Jvm.Cond.selects "java/util/ArrayList" ({ cls := "java/util/ArrayList", name := "add", desc := "(Ljava/lang/Object;)Z" } : Jvm.MethodName) ({ cls := "java/util/ArrayList", name := "add", desc := "(Ljava/lang/Object;)Z" } : Jvm.MethodName)) ∈ lw_all := lw_g (lw_at lw_m3 74 rfl) rfl
theorem q660 : (Jvm.Cond.code ({ cls := "java/util/ArrayList", name := "add", desc := "(Ljava/lang/Object;)Z" } : Jvm.MethodName) prog_38_method_25_code (2 : Nat) (Option.some Jvm.ClassFile.FieldType.boolean)) ∈ lw_all := lw_g (lw_at lw_m3 75 rfl) rfl
theorem q661 : (Jvm.Cond.methodLink "java/util/ArrayList" (131 : Nat) ({ cls := "java/util/ArrayList", name := "add", desc := "(Ljava/lang/Object;[Ljava/lang/Object;I)V" } : Jvm.MethodName)) ∈ lw_all := lw_g (lw_at lw_m3 76 rfl) rfl
theorem q662 : (Jvm.Cond.privateMethod ({ cls := "java/util/ArrayList", name := "add", desc := "(Ljava/lang/Object;[Ljava/lang/Object;I)V" } : Jvm.MethodName)) ∈ lw_tbl := lw_at lw_m3 77 rfl
theorem q663 : (Jvm.Cond.instanceMethod ({ cls := "java/util/ArrayList", name := "add", desc := "(Ljava/lang/Object;[Ljava/lang/Object;I)V" } : Jvm.MethodName)) ∈ lw_all := lw_g (lw_at lw_m3 78 rfl) rfl
theorem q664 : (Jvm.Cond.code ({ cls := "java/util/ArrayList", name := "add", desc := "(Ljava/lang/Object;[Ljava/lang/Object;I)V" } : Jvm.MethodName) prog_38_method_24_code (4 : Nat) (Option.none : Option Jvm.ClassFile.FieldType)) ∈ lw_all := lw_g (lw_at lw_m3 79 rfl) rfl
theorem q665 : (Jvm.Cond.methodLink "java/util/ArrayList" (129 : Nat) ({ cls := "java/util/ArrayList", name := "grow", desc := "()[Ljava/lang/Object;" } : Jvm.MethodName)) ∈ lw_all := lw_g (lw_at lw_m3 80 rfl) rfl
theorem q666 : (Jvm.Cond.privateMethod ({ cls := "java/util/ArrayList", name := "grow", desc := "()[Ljava/lang/Object;" } : Jvm.MethodName)) ∈ lw_tbl := lw_at lw_m3 81 rfl
theorem q667 : (Jvm.Cond.instanceMethod ({ cls := "java/util/ArrayList", name := "grow", desc := "()[Ljava/lang/Object;" } : Jvm.MethodName)) ∈ lw_all := lw_g (lw_at lw_m3 82 rfl) rfl
theorem q668 : (Jvm.Cond.code ({ cls := "java/util/ArrayList", name := "grow", desc := "()[Ljava/lang/Object;" } : Jvm.MethodName) prog_38_method_7_code (1 : Nat) (Option.some (Jvm.ClassFile.FieldType.array (Jvm.ClassFile.FieldType.object "java/lang/Object")))) ∈ lw_all := lw_g (lw_at lw_m3 83 rfl) rfl
theorem q669 : (Jvm.Cond.methodLink "java/util/ArrayList" (69 : Nat) ({ cls := "java/util/ArrayList", name := "grow", desc := "(I)[Ljava/lang/Object;" } : Jvm.MethodName)) ∈ lw_all := lw_g (lw_at lw_m3 84 rfl) rfl
theorem q670 : (Jvm.Cond.privateMethod ({ cls := "java/util/ArrayList", name := "grow", desc := "(I)[Ljava/lang/Object;" } : Jvm.MethodName)) ∈ lw_tbl := lw_at lw_m3 85 rfl
theorem q671 : (Jvm.Cond.instanceMethod ({ cls := "java/util/ArrayList", name := "grow", desc := "(I)[Ljava/lang/Object;" } : Jvm.MethodName)) ∈ lw_all := lw_g (lw_at lw_m3 86 rfl) rfl
theorem q672 : (Jvm.Cond.code ({ cls := "java/util/ArrayList", name := "grow", desc := "(I)[Ljava/lang/Object;" } : Jvm.MethodName) prog_38_method_6_code (4 : Nat) (Option.some (Jvm.ClassFile.FieldType.array (Jvm.ClassFile.FieldType.object "java/lang/Object")))) ∈ lw_all := lw_g (lw_at lw_m3 87 rfl) rfl
theorem q673 : (Jvm.Cond.methodLink "java/util/ArrayList" (73 : Nat) ({ cls := "jdk/internal/util/ArraysSupport", name := "newLength", desc := "(III)I" } : Jvm.MethodName)) ∈ lw_all := lw_g (lw_at lw_m3 88 rfl) rfl
theorem q683 : (Jvm.Cond.methodLink "java/util/ArrayList" (66 : Nat) ({ cls := "java/util/Arrays", name := "copyOf", desc := "([Ljava/lang/Object;I)[Ljava/lang/Object;" } : Jvm.MethodName)) ∈ lw_all := lw_g (lw_at lw_m3 98 rfl) rfl
theorem q704 : (Jvm.Cond.selects "java/util/ArrayList" ({ cls := "java/lang/Object", name := "getClass", desc := "()Ljava/lang/Class;" } : Jvm.MethodName) ({ cls := "java/lang/Object", name := "getClass", desc := "()Ljava/lang/Class;" } : Jvm.MethodName)) ∈ lw_all := lw_g (lw_at lw_m3 119 rfl) rfl
theorem q714 : (Jvm.Cond.methodLink "java/util/ArrayList" (79 : Nat) ({ cls := "java/lang/Math", name := "max", desc := "(II)I" } : Jvm.MethodName)) ∈ lw_all := lw_g (lw_at lw_m3 129 rfl) rfl
theorem q715 : (Jvm.Cond.classLink "java/util/ArrayList" (7 : Nat) "java/lang/Object") ∈ lw_all := lw_g (lw_at lw_m3 130 rfl) rfl
theorem q721 : (Jvm.Cond.instanceMethod ({ cls := "java/util/ArrayList", name := "isEmpty", desc := "()Z" } : Jvm.MethodName)) ∈ lw_all := lw_g (lw_at lw_m3 136 rfl) rfl
theorem q722 : (Jvm.Cond.selects "java/util/ArrayList" ({ cls := "java/util/ArrayList", name := "isEmpty", desc := "()Z" } : Jvm.MethodName) ({ cls := "java/util/ArrayList", name := "isEmpty", desc := "()Z" } : Jvm.MethodName)) ∈ lw_all := lw_g (lw_at lw_m3 137 rfl) rfl
theorem q723 : (Jvm.Cond.code ({ cls := "java/util/ArrayList", name := "isEmpty", desc := "()Z" } : Jvm.MethodName) prog_38_method_9_code (1 : Nat) (Option.some Jvm.ClassFile.FieldType.boolean)) ∈ lw_all := lw_g (lw_at lw_m3 138 rfl) rfl
theorem q766 : (Jvm.Cond.instanceMethod ({ cls := "java/util/ArrayList", name := "size", desc := "()I" } : Jvm.MethodName)) ∈ lw_all := lw_g (lw_at lw_m3 181 rfl) rfl
theorem q767 : (Jvm.Cond.selects "java/util/ArrayList" ({ cls := "java/util/ArrayList", name := "size", desc := "()I" } : Jvm.MethodName) ({ cls := "java/util/ArrayList", name := "size", desc := "()I" } : Jvm.MethodName)) ∈ lw_all := lw_g (lw_at lw_m3 182 rfl) rfl
theorem q768 : (Jvm.Cond.code ({ cls := "java/util/ArrayList", name := "size", desc := "()I" } : Jvm.MethodName) prog_38_method_8_code (1 : Nat) (Option.some Jvm.ClassFile.FieldType.int)) ∈ lw_all := lw_g (lw_at lw_m3 183 rfl) rfl
theorem q770 : (Jvm.Cond.instanceMethod ({ cls := "java/util/ArrayList", name := "get", desc := "(I)Ljava/lang/Object;" } : Jvm.MethodName)) ∈ lw_all := lw_g (lw_at lw_m3 185 rfl) rfl
theorem q771 : (Jvm.Cond.selects "java/util/ArrayList" ({ cls := "java/util/ArrayList", name := "get", desc := "(I)Ljava/lang/Object;" } : Jvm.MethodName) ({ cls := "java/util/ArrayList", name := "get", desc := "(I)Ljava/lang/Object;" } : Jvm.MethodName)) ∈ lw_all := lw_g (lw_at lw_m3 186 rfl) rfl
theorem q772 : (Jvm.Cond.code ({ cls := "java/util/ArrayList", name := "get", desc := "(I)Ljava/lang/Object;" } : Jvm.MethodName) prog_38_method_20_code (2 : Nat) (Option.some (Jvm.ClassFile.FieldType.object "java/lang/Object"))) ∈ lw_all := lw_g (lw_at lw_m3 187 rfl) rfl
theorem q773 : (Jvm.Cond.methodLink "java/util/ArrayList" (118 : Nat) ({ cls := "java/util/Objects", name := "checkIndex", desc := "(II)I" } : Jvm.MethodName)) ∈ lw_all := lw_g (lw_at lw_m3 188 rfl) rfl
theorem q777 : (Jvm.Cond.methodLink "java/util/ArrayList" (123 : Nat) ({ cls := "java/util/ArrayList", name := "elementData", desc := "(I)Ljava/lang/Object;" } : Jvm.MethodName)) ∈ lw_all := lw_g (lw_at lw_m3 192 rfl) rfl
theorem q778 : (Jvm.Cond.instanceMethod ({ cls := "java/util/ArrayList", name := "elementData", desc := "(I)Ljava/lang/Object;" } : Jvm.MethodName)) ∈ lw_all := lw_g (lw_at lw_m3 193 rfl) rfl
theorem q779 : (Jvm.Cond.selects "java/util/ArrayList" ({ cls := "java/util/ArrayList", name := "elementData", desc := "(I)Ljava/lang/Object;" } : Jvm.MethodName) ({ cls := "java/util/ArrayList", name := "elementData", desc := "(I)Ljava/lang/Object;" } : Jvm.MethodName)) ∈ lw_all := lw_g (lw_at lw_m3 194 rfl) rfl
theorem q780 : (Jvm.Cond.code ({ cls := "java/util/ArrayList", name := "elementData", desc := "(I)Ljava/lang/Object;" } : Jvm.MethodName) prog_38_method_18_code (2 : Nat) (Option.some (Jvm.ClassFile.FieldType.object "java/lang/Object"))) ∈ lw_all := lw_g (lw_at lw_m3 195 rfl) rfl
theorem q1686 : (Jvm.Cond.castable "java/util/ArrayList" "java/lang/Object") ∈ lw_tbl := lw_at lw_m7 141 rfl
theorem in_J2 : ∀ w ∈ wsJ20, w ∈ lw_all := lw_in wsJ20 [388, 384, 386] (by decide +kernel) (by decide +kernel)
/-! java/lang/String -/
set_option maxRecDepth 100000
def RJ3 : String := "java/lang/String"
abbrev cJ3_length : ByteArray := prog_29_method_54_code
def yJ3_length : MethodName := ⟨RJ3, "length", "()I"⟩
abbrev cJ3_coder : ByteArray := prog_29_method_152_code
def yJ3_coder : MethodName := ⟨RJ3, "coder", "()B"⟩
abbrev cJ3_charAt : ByteArray := prog_29_method_56_code
def yJ3_charAt : MethodName := ⟨RJ3, "charAt", "(I)C"⟩
abbrev cJ3_isLatin1 : ByteArray := prog_29_method_154_code
def yJ3_isLatin1 : MethodName := ⟨RJ3, "isLatin1", "()Z"⟩
abbrev cJ3_checkIndex : ByteArray := prog_29_method_155_code
def yJ3_checkIndex : MethodName := ⟨RJ3, "checkIndex", "(II)V"⟩
theorem q115 : (Jvm.Cond.initialized "java/lang/String") ∈ lw_all := lw_g (lw_at lw_m1 10 rfl) rfl
theorem q431 : (Jvm.Cond.instanceMethod ({ cls := "java/lang/String", name := "length", desc := "()I" } : Jvm.MethodName)) ∈ lw_all := lw_g (lw_at lw_m2 86 rfl) rfl
theorem q432 : (Jvm.Cond.selects "java/lang/String" ({ cls := "java/lang/String", name := "length", desc := "()I" } : Jvm.MethodName) ({ cls := "java/lang/String", name := "length", desc := "()I" } : Jvm.MethodName)) ∈ lw_all := lw_g (lw_at lw_m2 87 rfl) rfl
theorem q433 : (Jvm.Cond.code ({ cls := "java/lang/String", name := "length", desc := "()I" } : Jvm.MethodName) prog_29_method_54_code (1 : Nat) (Option.some Jvm.ClassFile.FieldType.int)) ∈ lw_all := lw_g (lw_at lw_m2 88 rfl) rfl
theorem q434 : (Jvm.Cond.methodLink "java/lang/String" (335 : Nat) ({ cls := "java/lang/String", name := "coder", desc := "()B" } : Jvm.MethodName)) ∈ lw_all := lw_g (lw_at lw_m2 89 rfl) rfl
theorem q435 : (Jvm.Cond.instanceMethod ({ cls := "java/lang/String", name := "coder", desc := "()B" } : Jvm.MethodName)) ∈ lw_all := lw_g (lw_at lw_m2 90 rfl) rfl
theorem q436 : (Jvm.Cond.selects "java/lang/String" ({ cls := "java/lang/String", name := "coder", desc := "()B" } : Jvm.MethodName) ({ cls := "java/lang/String", name := "coder", desc := "()B" } : Jvm.MethodName)) ∈ lw_all := lw_g (lw_at lw_m2 91 rfl) rfl
theorem q437 : (Jvm.Cond.code ({ cls := "java/lang/String", name := "coder", desc := "()B" } : Jvm.MethodName) prog_29_method_152_code (1 : Nat) (Option.some Jvm.ClassFile.FieldType.byte)) ∈ lw_all := lw_g (lw_at lw_m2 92 rfl) rfl
theorem q438 : (Jvm.Cond.fieldLink "java/lang/String" (38 : Nat) "java/lang/String" "COMPACT_STRINGS" "Z") ∈ lw_all := lw_g (lw_at lw_m2 93 rfl) rfl
theorem q439 : (Jvm.Cond.laysStatic "java/lang/String" "COMPACT_STRINGS" "Z") ∈ lw_tbl := lw_at lw_m2 94 rfl
theorem q441 : (Jvm.Cond.instanceMethod ({ cls := "java/lang/String", name := "charAt", desc := "(I)C" } : Jvm.MethodName)) ∈ lw_all := lw_g (lw_at lw_m2 96 rfl) rfl
theorem q442 : (Jvm.Cond.selects "java/lang/String" ({ cls := "java/lang/String", name := "charAt", desc := "(I)C" } : Jvm.MethodName) ({ cls := "java/lang/String", name := "charAt", desc := "(I)C" } : Jvm.MethodName)) ∈ lw_all := lw_g (lw_at lw_m2 97 rfl) rfl
theorem q443 : (Jvm.Cond.code ({ cls := "java/lang/String", name := "charAt", desc := "(I)C" } : Jvm.MethodName) prog_29_method_56_code (2 : Nat) (Option.some Jvm.ClassFile.FieldType.char)) ∈ lw_all := lw_g (lw_at lw_m2 98 rfl) rfl
theorem q444 : (Jvm.Cond.methodLink "java/lang/String" (492 : Nat) ({ cls := "java/lang/String", name := "isLatin1", desc := "()Z" } : Jvm.MethodName)) ∈ lw_all := lw_g (lw_at lw_m2 99 rfl) rfl
theorem q445 : (Jvm.Cond.instanceMethod ({ cls := "java/lang/String", name := "isLatin1", desc := "()Z" } : Jvm.MethodName)) ∈ lw_all := lw_g (lw_at lw_m2 100 rfl) rfl
theorem q446 : (Jvm.Cond.selects "java/lang/String" ({ cls := "java/lang/String", name := "isLatin1", desc := "()Z" } : Jvm.MethodName) ({ cls := "java/lang/String", name := "isLatin1", desc := "()Z" } : Jvm.MethodName)) ∈ lw_all := lw_g (lw_at lw_m2 101 rfl) rfl
theorem q447 : (Jvm.Cond.code ({ cls := "java/lang/String", name := "isLatin1", desc := "()Z" } : Jvm.MethodName) prog_29_method_154_code (1 : Nat) (Option.some Jvm.ClassFile.FieldType.boolean)) ∈ lw_all := lw_g (lw_at lw_m2 102 rfl) rfl
theorem q448 : (Jvm.Cond.methodLink "java/lang/String" (495 : Nat) ({ cls := "java/lang/StringLatin1", name := "charAt", desc := "([BI)C" } : Jvm.MethodName)) ∈ lw_all := lw_g (lw_at lw_m2 103 rfl) rfl
theorem q452 : (Jvm.Cond.static ({ cls := "java/lang/String", name := "checkIndex", desc := "(II)V" } : Jvm.MethodName)) ∈ lw_all := lw_g (lw_at lw_m2 107 rfl) rfl
theorem q453 : (Jvm.Cond.code ({ cls := "java/lang/String", name := "checkIndex", desc := "(II)V" } : Jvm.MethodName) prog_29_method_155_code (2 : Nat) (Option.none : Option Jvm.ClassFile.FieldType)) ∈ lw_all := lw_g (lw_at lw_m2 108 rfl) rfl
theorem q454 : (Jvm.Cond.fieldLink "java/lang/String" (1053 : Nat) "jdk/internal/util/Preconditions" "SIOOBE_FORMATTER" "Ljava/util/function/BiFunction;") ∈ lw_all := lw_g (lw_at lw_m2 109 rfl) rfl
theorem q456 : (Jvm.Cond.methodLink "java/lang/String" (1059 : Nat) ({ cls := "jdk/internal/util/Preconditions", name := "checkIndex", desc := "(IILjava/util/function/BiFunction;)I" } : Jvm.MethodName)) ∈ lw_all := lw_g (lw_at lw_m2 111 rfl) rfl
theorem q459 : (Jvm.Cond.methodLink "java/lang/String" (498 : Nat) ({ cls := "java/lang/StringUTF16", name := "charAt", desc := "([BI)C" } : Jvm.MethodName)) ∈ lw_all := lw_g (lw_at lw_m2 114 rfl) rfl
theorem q1681 : (Jvm.Cond.castable "java/lang/String" "java/lang/Object") ∈ lw_tbl := lw_at lw_m7 136 rfl
theorem q1711 : (Jvm.Cond.fieldLink "java/lang/String" (9 : Nat) "java/lang/String" "value" "[B") ∈ lw_all := lw_g (lw_at lw_m7 166 rfl) rfl
theorem q1712 : (Jvm.Cond.fieldLink "java/lang/String" (15 : Nat) "java/lang/String" "coder" "B") ∈ lw_all := lw_g (lw_at lw_m7 167 rfl) rfl
/-! java/lang/StringLatin1 -/
set_option maxRecDepth 100000
def RJ4 : String := "java/lang/StringLatin1"
abbrev cJ4_charAt : ByteArray := prog_30_method_2_code
def yJ4_charAt : MethodName := ⟨RJ4, "charAt", "([BI)C"⟩
theorem q116 : (Jvm.Cond.initialized "java/lang/StringLatin1") ∈ lw_all := lw_g (lw_at lw_m1 11 rfl) rfl
theorem q449 : (Jvm.Cond.static ({ cls := "java/lang/StringLatin1", name := "charAt", desc := "([BI)C" } : Jvm.MethodName)) ∈ lw_all := lw_g (lw_at lw_m2 104 rfl) rfl
theorem q450 : (Jvm.Cond.code ({ cls := "java/lang/StringLatin1", name := "charAt", desc := "([BI)C" } : Jvm.MethodName) prog_30_method_2_code (2 : Nat) (Option.some Jvm.ClassFile.FieldType.char)) ∈ lw_all := lw_g (lw_at lw_m2 105 rfl) rfl
theorem q451 : (Jvm.Cond.methodLink "java/lang/StringLatin1" (9 : Nat) ({ cls := "java/lang/String", name := "checkIndex", desc := "(II)V" } : Jvm.MethodName)) ∈ lw_all := lw_g (lw_at lw_m2 106 rfl) rfl
/-! jdk/internal/util/Preconditions -/
set_option maxRecDepth 100000
def RJ5 : String := "jdk/internal/util/Preconditions"
abbrev cJ5_checkIndex : ByteArray := prog_46_method_11_code
def yJ5_checkIndex : MethodName := ⟨RJ5, "checkIndex", "(IILjava/util/function/BiFunction;)I"⟩
theorem q117 : (Jvm.Cond.initialized "jdk/internal/util/Preconditions") ∈ lw_all := lw_g (lw_at lw_m1 12 rfl) rfl
theorem q455 : (Jvm.Cond.laysStatic "jdk/internal/util/Preconditions" "SIOOBE_FORMATTER" "Ljava/util/function/BiFunction;") ∈ lw_tbl := lw_at lw_m2 110 rfl
theorem q457 : (Jvm.Cond.static ({ cls := "jdk/internal/util/Preconditions", name := "checkIndex", desc := "(IILjava/util/function/BiFunction;)I" } : Jvm.MethodName)) ∈ lw_all := lw_g (lw_at lw_m2 112 rfl) rfl
theorem q458 : (Jvm.Cond.code ({ cls := "jdk/internal/util/Preconditions", name := "checkIndex", desc := "(IILjava/util/function/BiFunction;)I" } : Jvm.MethodName) prog_46_method_11_code (3 : Nat) (Option.some Jvm.ClassFile.FieldType.int)) ∈ lw_all := lw_g (lw_at lw_m2 113 rfl) rfl
/-! java/lang/StringUTF16 -/
set_option maxRecDepth 100000
def RJ6 : String := "java/lang/StringUTF16"
abbrev cJ6_charAt : ByteArray := prog_31_method_83_code
def yJ6_charAt : MethodName := ⟨RJ6, "charAt", "([BI)C"⟩
abbrev cJ6_checkIndex : ByteArray := prog_31_method_91_code
def yJ6_checkIndex : MethodName := ⟨RJ6, "checkIndex", "(I[B)V"⟩
abbrev cJ6_length : ByteArray := prog_31_method_6_code
def yJ6_length : MethodName := ⟨RJ6, "length", "([B)I"⟩
abbrev cJ6_getChar : ByteArray := prog_31_method_5_code
def yJ6_getChar : MethodName := ⟨RJ6, "getChar", "([BI)C"⟩
theorem q118 : (Jvm.Cond.initialized "java/lang/StringUTF16") ∈ lw_all := lw_g (lw_at lw_m1 13 rfl) rfl
theorem q460 : (Jvm.Cond.static ({ cls := "java/lang/StringUTF16", name := "charAt", desc := "([BI)C" } : Jvm.MethodName)) ∈ lw_all := lw_g (lw_at lw_m2 115 rfl) rfl
theorem q461 : (Jvm.Cond.code ({ cls := "java/lang/StringUTF16", name := "charAt", desc := "([BI)C" } : Jvm.MethodName) prog_31_method_83_code (2 : Nat) (Option.some Jvm.ClassFile.FieldType.char)) ∈ lw_all := lw_g (lw_at lw_m2 116 rfl) rfl
theorem q462 : (Jvm.Cond.methodLink "java/lang/StringUTF16" (67 : Nat) ({ cls := "java/lang/StringUTF16", name := "checkIndex", desc := "(I[B)V" } : Jvm.MethodName)) ∈ lw_all := lw_g (lw_at lw_m2 117 rfl) rfl
theorem q463 : (Jvm.Cond.static ({ cls := "java/lang/StringUTF16", name := "checkIndex", desc := "(I[B)V" } : Jvm.MethodName)) ∈ lw_all := lw_g (lw_at lw_m2 118 rfl) rfl
theorem q464 : (Jvm.Cond.code ({ cls := "java/lang/StringUTF16", name := "checkIndex", desc := "(I[B)V" } : Jvm.MethodName) prog_31_method_91_code (2 : Nat) (Option.none : Option Jvm.ClassFile.FieldType)) ∈ lw_all := lw_g (lw_at lw_m2 119 rfl) rfl
theorem q465 : (Jvm.Cond.methodLink "java/lang/StringUTF16" (48 : Nat) ({ cls := "java/lang/StringUTF16", name := "length", desc := "([B)I" } : Jvm.MethodName)) ∈ lw_all := lw_g (lw_at lw_m2 120 rfl) rfl
theorem q466 : (Jvm.Cond.static ({ cls := "java/lang/StringUTF16", name := "length", desc := "([B)I" } : Jvm.MethodName)) ∈ lw_all := lw_g (lw_at lw_m2 121 rfl) rfl
theorem q467 : (Jvm.Cond.code ({ cls := "java/lang/StringUTF16", name := "length", desc := "([B)I" } : Jvm.MethodName) prog_31_method_6_code (1 : Nat) (Option.some Jvm.ClassFile.FieldType.int)) ∈ lw_all := lw_g (lw_at lw_m2 122 rfl) rfl
theorem q468 : (Jvm.Cond.methodLink "java/lang/StringUTF16" (414 : Nat) ({ cls := "java/lang/String", name := "checkIndex", desc := "(II)V" } : Jvm.MethodName)) ∈ lw_all := lw_g (lw_at lw_m2 123 rfl) rfl
theorem q469 : (Jvm.Cond.methodLink "java/lang/StringUTF16" (71 : Nat) ({ cls := "java/lang/StringUTF16", name := "getChar", desc := "([BI)C" } : Jvm.MethodName)) ∈ lw_all := lw_g (lw_at lw_m2 124 rfl) rfl
theorem q470 : (Jvm.Cond.static ({ cls := "java/lang/StringUTF16", name := "getChar", desc := "([BI)C" } : Jvm.MethodName)) ∈ lw_all := lw_g (lw_at lw_m2 125 rfl) rfl
theorem q471 : (Jvm.Cond.code ({ cls := "java/lang/StringUTF16", name := "getChar", desc := "([BI)C" } : Jvm.MethodName) prog_31_method_5_code (2 : Nat) (Option.some Jvm.ClassFile.FieldType.char)) ∈ lw_all := lw_g (lw_at lw_m2 126 rfl) rfl
theorem q472 : (Jvm.Cond.fieldLink "java/lang/StringUTF16" (44 : Nat) "java/lang/StringUTF16" "$assertionsDisabled" "Z") ∈ lw_all := lw_g (lw_at lw_m2 127 rfl) rfl
theorem q473 : (Jvm.Cond.laysStatic "java/lang/StringUTF16" "$assertionsDisabled" "Z") ∈ lw_tbl := lw_at lw_m2 128 rfl
theorem q474 : (Jvm.Cond.fieldLink "java/lang/StringUTF16" (59 : Nat) "java/lang/StringUTF16" "HI_BYTE_SHIFT" "I") ∈ lw_all := lw_g (lw_at lw_m2 129 rfl) rfl
theorem q475 : (Jvm.Cond.laysStatic "java/lang/StringUTF16" "HI_BYTE_SHIFT" "I") ∈ lw_tbl := lw_at lw_m2 130 rfl
theorem q476 : (Jvm.Cond.fieldLink "java/lang/StringUTF16" (63 : Nat) "java/lang/StringUTF16" "LO_BYTE_SHIFT" "I") ∈ lw_all := lw_g (lw_at lw_m2 131 rfl) rfl
theorem q477 : (Jvm.Cond.laysStatic "java/lang/StringUTF16" "LO_BYTE_SHIFT" "I") ∈ lw_tbl := lw_at lw_m2 132 rfl
/-! java/lang/Math -/
set_option maxRecDepth 100000
def RJ7 : String := "java/lang/Math"
abbrev cJ7_min : ByteArray := prog_26_method_69_code
def yJ7_min : MethodName := ⟨RJ7, "min", "(II)I"⟩
abbrev cJ7_max : ByteArray := prog_26_method_65_code
def yJ7_max : MethodName := ⟨RJ7, "max", "(II)I"⟩
abbrev cJ7_min_2 : ByteArray := prog_26_method_70_code
def yJ7_min_2 : MethodName := ⟨RJ7, "min", "(JJ)J"⟩
abbrev cJ7_max_2 : ByteArray := prog_26_method_66_code
def yJ7_max_2 : MethodName := ⟨RJ7, "max", "(JJ)J"⟩
abbrev cJ7_abs : ByteArray := prog_26_method_59_code
def yJ7_abs : MethodName := ⟨RJ7, "abs", "(I)I"⟩
theorem q119 : (Jvm.Cond.initialized "java/lang/Math") ∈ lw_all := lw_g (lw_at lw_m1 14 rfl) rfl
theorem q483 : (Jvm.Cond.static ({ cls := "java/lang/Math", name := "min", desc := "(II)I" } : Jvm.MethodName)) ∈ lw_all := lw_g (lw_at lw_m2 138 rfl) rfl
theorem q484 : (Jvm.Cond.code ({ cls := "java/lang/Math", name := "min", desc := "(II)I" } : Jvm.MethodName) prog_26_method_69_code (2 : Nat) (Option.some Jvm.ClassFile.FieldType.int)) ∈ lw_all := lw_g (lw_at lw_m2 139 rfl) rfl
theorem q677 : (Jvm.Cond.static ({ cls := "java/lang/Math", name := "max", desc := "(II)I" } : Jvm.MethodName)) ∈ lw_all := lw_g (lw_at lw_m3 92 rfl) rfl
theorem q678 : (Jvm.Cond.code ({ cls := "java/lang/Math", name := "max", desc := "(II)I" } : Jvm.MethodName) prog_26_method_65_code (2 : Nat) (Option.some Jvm.ClassFile.FieldType.int)) ∈ lw_all := lw_g (lw_at lw_m3 93 rfl) rfl
theorem q938 : (Jvm.Cond.static ({ cls := "java/lang/Math", name := "min", desc := "(JJ)J" } : Jvm.MethodName)) ∈ lw_all := lw_g (lw_at lw_m4 113 rfl) rfl
theorem q939 : (Jvm.Cond.code ({ cls := "java/lang/Math", name := "min", desc := "(JJ)J" } : Jvm.MethodName) prog_26_method_70_code (4 : Nat) (Option.some Jvm.ClassFile.FieldType.long)) ∈ lw_all := lw_g (lw_at lw_m4 114 rfl) rfl
theorem q941 : (Jvm.Cond.static ({ cls := "java/lang/Math", name := "max", desc := "(JJ)J" } : Jvm.MethodName)) ∈ lw_all := lw_g (lw_at lw_m4 116 rfl) rfl
theorem q942 : (Jvm.Cond.code ({ cls := "java/lang/Math", name := "max", desc := "(JJ)J" } : Jvm.MethodName) prog_26_method_66_code (4 : Nat) (Option.some Jvm.ClassFile.FieldType.long)) ∈ lw_all := lw_g (lw_at lw_m4 117 rfl) rfl
theorem q1076 : (Jvm.Cond.static ({ cls := "java/lang/Math", name := "abs", desc := "(I)I" } : Jvm.MethodName)) ∈ lw_all := lw_g (lw_at lw_m5 11 rfl) rfl
theorem q1077 : (Jvm.Cond.code ({ cls := "java/lang/Math", name := "abs", desc := "(I)I" } : Jvm.MethodName) prog_26_method_59_code (1 : Nat) (Option.some Jvm.ClassFile.FieldType.int)) ∈ lw_all := lw_g (lw_at lw_m5 12 rfl) rfl
/-! java/lang/Throwable -/
set_option maxRecDepth 100000
def RJ8 : String := "java/lang/Throwable"
def TJ8 : u_T := fun k => match k with
  | 0 => ("java/lang/Throwable", "cause", "Ljava/lang/Throwable;", false)
  | 1 => ("java/lang/Throwable", "stackTrace", "[Ljava/lang/StackTraceElement;", false)
  | 2 => ("java/lang/Throwable", "suppressedExceptions", "Ljava/util/List;", false)
  | 3 => ("java/lang/Throwable", "detailMessage", "Ljava/lang/String;", false)
  | _ => ("java/lang/Throwable", "backtrace", "Ljava/lang/Object;", false)
def tyJ8 : Nat → FieldType := fun k => match k with
  | 0 => .object "java/lang/Throwable"
  | 1 => .array (.object "java/lang/StackTraceElement")
  | 2 => .object "java/util/List"
  | 3 => .object "java/lang/String"
  | _ => .object "java/lang/Object"
abbrev wsJ80 : List Cond := u_ws RJ8 TJ8 5
theorem nmJ8 : ∀ a, a < 5 → ∀ b, b < 5 → a ≠ b → (TJ8 a).2.1 ≠ (TJ8 b).2.1 := by decide +kernel
theorem tyJ8_ok : ∀ k, k < 5 → parseFieldDescriptor (TJ8 k).2.2.1 = some (tyJ8 k) := by decide +kernel
abbrev cJ8_init : ByteArray := prog_33_method_1_code
def yJ8_init : MethodName := ⟨RJ8, "<init>", "()V"⟩
theorem q120 : (Jvm.Cond.initialized "java/lang/Throwable") ∈ lw_all := lw_g (lw_at lw_m1 15 rfl) rfl
theorem q495 : (Jvm.Cond.declares ({ cls := "java/lang/Throwable", name := "<init>", desc := "()V" } : Jvm.MethodName)) ∈ lw_tbl := lw_at lw_m2 150 rfl
theorem q496 : (Jvm.Cond.declares ({ cls := "java/lang/Throwable", name := "<init>", desc := "(Ljava/lang/String;)V" } : Jvm.MethodName)) ∈ lw_tbl := lw_at lw_m2 151 rfl
theorem q500 : (Jvm.Cond.lays "java/lang/Throwable" "java/lang/Throwable" "cause" "Ljava/lang/Throwable;") ∈ lw_all := lw_g (lw_at lw_m2 155 rfl) rfl
theorem q502 : (Jvm.Cond.lays "java/lang/Throwable" "java/lang/Throwable" "stackTrace" "[Ljava/lang/StackTraceElement;") ∈ lw_all := lw_g (lw_at lw_m2 157 rfl) rfl
theorem q504 : (Jvm.Cond.lays "java/lang/Throwable" "java/lang/Throwable" "suppressedExceptions" "Ljava/util/List;") ∈ lw_all := lw_g (lw_at lw_m2 159 rfl) rfl
theorem q506 : (Jvm.Cond.lays "java/lang/Throwable" "java/lang/Throwable" "detailMessage" "Ljava/lang/String;") ∈ lw_all := lw_g (lw_at lw_m2 161 rfl) rfl
theorem q508 : (Jvm.Cond.lays "java/lang/Throwable" "java/lang/Throwable" "backtrace" "Ljava/lang/Object;") ∈ lw_all := lw_g (lw_at lw_m2 163 rfl) rfl
theorem q509 : (Jvm.Cond.fieldLink "java/lang/Throwable" (198 : Nat) "java/lang/Throwable" "backtrace" "Ljava/lang/Object;") ∈ lw_all := lw_g (lw_at lw_m2 164 rfl) rfl
theorem q510 : (Jvm.Cond.superclass "java/lang/Throwable" "java/lang/Object") ∈ lw_all := lw_g (lw_at lw_m2 165 rfl) rfl
theorem q511 : (Jvm.Cond.instanceMethod ({ cls := "java/lang/Throwable", name := "<init>", desc := "()V" } : Jvm.MethodName)) ∈ lw_all := lw_g (lw_at lw_m2 166 rfl) rfl
theorem q512 : (Jvm.Cond.code ({ cls := "java/lang/Throwable", name := "<init>", desc := "()V" } : Jvm.MethodName) prog_33_method_1_code (1 : Nat) (Option.none : Option Jvm.ClassFile.FieldType)) ∈ lw_all := lw_g (lw_at lw_m2 167 rfl) rfl
theorem q513 : (Jvm.Cond.methodLink "java/lang/Throwable" (1 : Nat) ({ cls := "java/lang/Object", name := "<init>", desc := "()V" } : Jvm.MethodName)) ∈ lw_all := lw_g (lw_at lw_m2 168 rfl) rfl
theorem q514 : (Jvm.Cond.fieldLink "java/lang/Throwable" (13 : Nat) "java/lang/Throwable" "UNASSIGNED_STACK" "[Ljava/lang/StackTraceElement;") ∈ lw_all := lw_g (lw_at lw_m2 169 rfl) rfl
theorem q515 : (Jvm.Cond.laysStatic "java/lang/Throwable" "UNASSIGNED_STACK" "[Ljava/lang/StackTraceElement;") ∈ lw_tbl := lw_at lw_m2 170 rfl
theorem q516 : (Jvm.Cond.fieldLink "java/lang/Throwable" (20 : Nat) "java/lang/Throwable" "SUPPRESSED_SENTINEL" "Ljava/util/List;") ∈ lw_all := lw_g (lw_at lw_m2 171 rfl) rfl
theorem q517 : (Jvm.Cond.laysStatic "java/lang/Throwable" "SUPPRESSED_SENTINEL" "Ljava/util/List;") ∈ lw_tbl := lw_at lw_m2 172 rfl
theorem q518 : (Jvm.Cond.methodLink "java/lang/Throwable" (27 : Nat) ({ cls := "java/lang/Throwable", name := "fillInStackTrace", desc := "()Ljava/lang/Throwable;" } : Jvm.MethodName)) ∈ lw_all := lw_g (lw_at lw_m2 173 rfl) rfl
theorem q519 : (Jvm.Cond.instanceMethod ({ cls := "java/lang/Throwable", name := "fillInStackTrace", desc := "()Ljava/lang/Throwable;" } : Jvm.MethodName)) ∈ lw_all := lw_g (lw_at lw_m2 174 rfl) rfl
theorem q520 : (Jvm.Cond.sameMethod "java/lang/Throwable" "java/lang/Throwable" "fillInStackTrace" "()Ljava/lang/Throwable;") ∈ lw_all := lw_g (lw_at lw_m2 175 rfl) rfl
theorem q521 : (Jvm.Cond.codeSync ({ cls := "java/lang/Throwable", name := "fillInStackTrace", desc := "()Ljava/lang/Throwable;" } : Jvm.MethodName) prog_33_method_18_code (1 : Nat) (Option.some (Jvm.ClassFile.FieldType.object "java/lang/Throwable"))) ∈ lw_all := lw_g (lw_at lw_m2 176 rfl) rfl
theorem q522 : (Jvm.Cond.methodLink "java/lang/Throwable" (202 : Nat) ({ cls := "java/lang/Throwable", name := "fillInStackTrace", desc := "(I)Ljava/lang/Throwable;" } : Jvm.MethodName)) ∈ lw_all := lw_g (lw_at lw_m2 177 rfl) rfl
theorem q523 : (Jvm.Cond.privateMethod ({ cls := "java/lang/Throwable", name := "fillInStackTrace", desc := "(I)Ljava/lang/Throwable;" } : Jvm.MethodName)) ∈ lw_tbl := lw_at lw_m2 178 rfl
theorem q524 : (Jvm.Cond.instanceMethod ({ cls := "java/lang/Throwable", name := "fillInStackTrace", desc := "(I)Ljava/lang/Throwable;" } : Jvm.MethodName)) ∈ lw_all := lw_g (lw_at lw_m2 179 rfl) rfl
theorem q525 : (Jvm.Cond.instantiable "java/lang/Throwable" (6 : Nat)) ∈ lw_all := lw_g (lw_at lw_m2 180 rfl) rfl
theorem q526 : (Jvm.Cond.native ({ cls := "java/lang/Throwable", name := "fillInStackTrace", desc := "(I)Ljava/lang/Throwable;" } : Jvm.MethodName)) ∈ lw_all := lw_g (lw_at lw_m2 181 rfl) rfl
theorem q538 : (Jvm.Cond.fieldLink "java/lang/Throwable" (198 : Nat) "java/lang/Throwable" "backtrace" "Ljava/lang/Object;") ∈ lw_all := lw_g (lw_at lw_m2 193 rfl) rfl
theorem q539 : (Jvm.Cond.fieldLink "java/lang/Throwable" (7 : Nat) "java/lang/Throwable" "cause" "Ljava/lang/Throwable;") ∈ lw_all := lw_g (lw_at lw_m2 194 rfl) rfl
theorem q540 : (Jvm.Cond.fieldLink "java/lang/Throwable" (17 : Nat) "java/lang/Throwable" "stackTrace" "[Ljava/lang/StackTraceElement;") ∈ lw_all := lw_g (lw_at lw_m2 195 rfl) rfl
theorem q541 : (Jvm.Cond.fieldLink "java/lang/Throwable" (24 : Nat) "java/lang/Throwable" "suppressedExceptions" "Ljava/util/List;") ∈ lw_all := lw_g (lw_at lw_m2 196 rfl) rfl
theorem q546 : (Jvm.Cond.soleField "java/lang/Throwable" "backtrace") ∈ lw_all := lw_g (lw_at lw_m2 201 rfl) rfl
theorem q547 : (Jvm.Cond.soleField "java/lang/Throwable" "detailMessage") ∈ lw_all := lw_g (lw_at lw_m2 202 rfl) rfl
theorem q548 : (Jvm.Cond.soleField "java/lang/Throwable" "cause") ∈ lw_all := lw_g (lw_at lw_m2 203 rfl) rfl
theorem q549 : (Jvm.Cond.soleField "java/lang/Throwable" "stackTrace") ∈ lw_all := lw_g (lw_at lw_m2 204 rfl) rfl
theorem q551 : (Jvm.Cond.soleField "java/lang/Throwable" "depth") ∈ lw_all := lw_g (lw_at lw_m2 206 rfl) rfl
theorem q552 : (Jvm.Cond.soleField "java/lang/Throwable" "suppressedExceptions") ∈ lw_all := lw_g (lw_at lw_m2 207 rfl) rfl
theorem q1678 : (Jvm.Cond.sameMethod "java/lang/Throwable" "java/lang/Throwable" "fillInStackTrace" "(I)Ljava/lang/Throwable;") ∈ lw_all := lw_g (lw_at lw_m7 133 rfl) rfl
theorem q1697 : (Jvm.Cond.castable "java/lang/Throwable" "java/lang/Object") ∈ lw_tbl := lw_at lw_m7 152 rfl
theorem in_J8 : ∀ w ∈ wsJ80, w ∈ lw_all := lw_in wsJ80 [500, 502, 504, 506, 508] (by decide +kernel) (by decide +kernel)
/-! java/lang/Exception -/
set_option maxRecDepth 100000
def RJ9 : String := "java/lang/Exception"
abbrev cJ9_init : ByteArray := prog_22_method_1_code
def yJ9_init : MethodName := ⟨RJ9, "<init>", "()V"⟩
theorem q121 : (Jvm.Cond.initialized "java/lang/Exception") ∈ lw_all := lw_g (lw_at lw_m1 16 rfl) rfl
theorem q493 : (Jvm.Cond.declares ({ cls := "java/lang/Exception", name := "<init>", desc := "()V" } : Jvm.MethodName)) ∈ lw_tbl := lw_at lw_m2 148 rfl
theorem q494 : (Jvm.Cond.declares ({ cls := "java/lang/Exception", name := "<init>", desc := "(Ljava/lang/String;)V" } : Jvm.MethodName)) ∈ lw_tbl := lw_at lw_m2 149 rfl
theorem q531 : (Jvm.Cond.instanceMethod ({ cls := "java/lang/Exception", name := "<init>", desc := "()V" } : Jvm.MethodName)) ∈ lw_all := lw_g (lw_at lw_m2 186 rfl) rfl
theorem q532 : (Jvm.Cond.code ({ cls := "java/lang/Exception", name := "<init>", desc := "()V" } : Jvm.MethodName) prog_22_method_1_code (1 : Nat) (Option.none : Option Jvm.ClassFile.FieldType)) ∈ lw_all := lw_g (lw_at lw_m2 187 rfl) rfl
theorem q533 : (Jvm.Cond.methodLink "java/lang/Exception" (1 : Nat) ({ cls := "java/lang/Throwable", name := "<init>", desc := "()V" } : Jvm.MethodName)) ∈ lw_all := lw_g (lw_at lw_m2 188 rfl) rfl
/-! java/lang/Record -/
set_option maxRecDepth 100000
def RJ10 : String := "java/lang/Record"
abbrev cJ10_init : ByteArray := prog_28_method_1_code
def yJ10_init : MethodName := ⟨RJ10, "<init>", "()V"⟩
theorem q124 : (Jvm.Cond.initialized "java/lang/Record") ∈ lw_all := lw_g (lw_at lw_m1 19 rfl) rfl
theorem q582 : (Jvm.Cond.instanceMethod ({ cls := "java/lang/Record", name := "<init>", desc := "()V" } : Jvm.MethodName)) ∈ lw_all := lw_g (lw_at lw_m2 237 rfl) rfl
theorem q583 : (Jvm.Cond.code ({ cls := "java/lang/Record", name := "<init>", desc := "()V" } : Jvm.MethodName) prog_28_method_1_code (1 : Nat) (Option.none : Option Jvm.ClassFile.FieldType)) ∈ lw_all := lw_g (lw_at lw_m2 238 rfl) rfl
theorem q584 : (Jvm.Cond.methodLink "java/lang/Record" (1 : Nat) ({ cls := "java/lang/Object", name := "<init>", desc := "()V" } : Jvm.MethodName)) ∈ lw_all := lw_g (lw_at lw_m2 239 rfl) rfl
/-! java/lang/Number -/
set_option maxRecDepth 100000
def RJ11 : String := "java/lang/Number"
abbrev cJ11_init : ByteArray := prog_27_method_1_code
def yJ11_init : MethodName := ⟨RJ11, "<init>", "()V"⟩
theorem q128 : (Jvm.Cond.initialized "java/lang/Number") ∈ lw_all := lw_g (lw_at lw_m1 23 rfl) rfl
theorem q650 : (Jvm.Cond.instanceMethod ({ cls := "java/lang/Number", name := "<init>", desc := "()V" } : Jvm.MethodName)) ∈ lw_all := lw_g (lw_at lw_m3 65 rfl) rfl
theorem q651 : (Jvm.Cond.code ({ cls := "java/lang/Number", name := "<init>", desc := "()V" } : Jvm.MethodName) prog_27_method_1_code (1 : Nat) (Option.none : Option Jvm.ClassFile.FieldType)) ∈ lw_all := lw_g (lw_at lw_m3 66 rfl) rfl
theorem q652 : (Jvm.Cond.methodLink "java/lang/Number" (1 : Nat) ({ cls := "java/lang/Object", name := "<init>", desc := "()V" } : Jvm.MethodName)) ∈ lw_all := lw_g (lw_at lw_m3 67 rfl) rfl
/-! java/lang/Integer -/
set_option maxRecDepth 100000
def RJ12 : String := "java/lang/Integer"
def TJ12 : u_T := fun k => match k with
  | _ => ("java/lang/Integer", "value", "I", true)
def tyJ12 : Nat → FieldType := fun k => match k with
  | _ => .int
abbrev wsJ120 : List Cond := u_ws RJ12 TJ12 1
theorem nmJ12 : ∀ a, a < 1 → ∀ b, b < 1 → a ≠ b → (TJ12 a).2.1 ≠ (TJ12 b).2.1 := by decide +kernel
theorem tyJ12_ok : ∀ k, k < 1 → parseFieldDescriptor (TJ12 k).2.2.1 = some (tyJ12 k) := by decide +kernel
abbrev cJ12_valueOf : ByteArray := prog_23_method_22_code
def yJ12_valueOf : MethodName := ⟨RJ12, "valueOf", "(I)Ljava/lang/Integer;"⟩
abbrev cJ12_init : ByteArray := prog_23_method_23_code
def yJ12_init : MethodName := ⟨RJ12, "<init>", "(I)V"⟩
abbrev cJ12_bitCount : ByteArray := prog_23_method_49_code
def yJ12_bitCount : MethodName := ⟨RJ12, "bitCount", "(I)I"⟩
abbrev cJ12_intValue : ByteArray := prog_23_method_27_code
def yJ12_intValue : MethodName := ⟨RJ12, "intValue", "()I"⟩
theorem q129 : (Jvm.Cond.initialized "java/lang/Integer") ∈ lw_all := lw_g (lw_at lw_m1 24 rfl) rfl
theorem q638 : (Jvm.Cond.static ({ cls := "java/lang/Integer", name := "valueOf", desc := "(I)Ljava/lang/Integer;" } : Jvm.MethodName)) ∈ lw_all := lw_g (lw_at lw_m3 53 rfl) rfl
theorem q639 : (Jvm.Cond.code ({ cls := "java/lang/Integer", name := "valueOf", desc := "(I)Ljava/lang/Integer;" } : Jvm.MethodName) prog_23_method_22_code (1 : Nat) (Option.some (Jvm.ClassFile.FieldType.object "java/lang/Integer"))) ∈ lw_all := lw_g (lw_at lw_m3 54 rfl) rfl
theorem q640 : (Jvm.Cond.fieldLink "java/lang/Integer" (191 : Nat) "java/lang/Integer$IntegerCache" "high" "I") ∈ lw_all := lw_g (lw_at lw_m3 55 rfl) rfl
theorem q642 : (Jvm.Cond.fieldLink "java/lang/Integer" (195 : Nat) "java/lang/Integer$IntegerCache" "cache" "[Ljava/lang/Integer;") ∈ lw_all := lw_g (lw_at lw_m3 57 rfl) rfl
theorem q644 : (Jvm.Cond.classLink "java/lang/Integer" (1 : Nat) "java/lang/Integer") ∈ lw_all := lw_g (lw_at lw_m3 59 rfl) rfl
theorem q645 : (Jvm.Cond.instantiable "java/lang/Integer" (1 : Nat)) ∈ lw_all := lw_g (lw_at lw_m3 60 rfl) rfl
theorem q646 : (Jvm.Cond.methodLink "java/lang/Integer" (199 : Nat) ({ cls := "java/lang/Integer", name := "<init>", desc := "(I)V" } : Jvm.MethodName)) ∈ lw_all := lw_g (lw_at lw_m3 61 rfl) rfl
theorem q647 : (Jvm.Cond.instanceMethod ({ cls := "java/lang/Integer", name := "<init>", desc := "(I)V" } : Jvm.MethodName)) ∈ lw_all := lw_g (lw_at lw_m3 62 rfl) rfl
theorem q648 : (Jvm.Cond.code ({ cls := "java/lang/Integer", name := "<init>", desc := "(I)V" } : Jvm.MethodName) prog_23_method_23_code (2 : Nat) (Option.none : Option Jvm.ClassFile.FieldType)) ∈ lw_all := lw_g (lw_at lw_m3 63 rfl) rfl
theorem q649 : (Jvm.Cond.methodLink "java/lang/Integer" (202 : Nat) ({ cls := "java/lang/Number", name := "<init>", desc := "()V" } : Jvm.MethodName)) ∈ lw_all := lw_g (lw_at lw_m3 64 rfl) rfl
theorem q653 : (Jvm.Cond.fieldLink "java/lang/Integer" (205 : Nat) "java/lang/Integer" "value" "I") ∈ lw_all := lw_g (lw_at lw_m3 68 rfl) rfl
theorem q654 : (Jvm.Cond.laysFinal "java/lang/Integer" "java/lang/Integer" "value" "I") ∈ lw_all := lw_g (lw_at lw_m3 69 rfl) rfl
theorem q655 : (Jvm.Cond.soleField "java/lang/Integer" "value") ∈ lw_all := lw_g (lw_at lw_m3 70 rfl) rfl
theorem q656 : (Jvm.Cond.superclass "java/lang/Integer" "java/lang/Number") ∈ lw_all := lw_g (lw_at lw_m3 71 rfl) rfl
theorem q703 : (Jvm.Cond.selects "java/lang/Integer" ({ cls := "java/lang/Object", name := "getClass", desc := "()Ljava/lang/Class;" } : Jvm.MethodName) ({ cls := "java/lang/Object", name := "getClass", desc := "()Ljava/lang/Class;" } : Jvm.MethodName)) ∈ lw_all := lw_g (lw_at lw_m3 118 rfl) rfl
theorem q870 : (Jvm.Cond.static ({ cls := "java/lang/Integer", name := "bitCount", desc := "(I)I" } : Jvm.MethodName)) ∈ lw_all := lw_g (lw_at lw_m4 45 rfl) rfl
theorem q871 : (Jvm.Cond.code ({ cls := "java/lang/Integer", name := "bitCount", desc := "(I)I" } : Jvm.MethodName) prog_23_method_49_code (1 : Nat) (Option.some Jvm.ClassFile.FieldType.int)) ∈ lw_all := lw_g (lw_at lw_m4 46 rfl) rfl
theorem q872 : (Jvm.Cond.constant "java/lang/Integer" (265 : Nat) (1431655765 : Int32)) ∈ lw_all := lw_g (lw_at lw_m4 47 rfl) rfl
theorem q873 : (Jvm.Cond.constant "java/lang/Integer" (266 : Nat) (858993459 : Int32)) ∈ lw_all := lw_g (lw_at lw_m4 48 rfl) rfl
theorem q874 : (Jvm.Cond.constant "java/lang/Integer" (267 : Nat) (252645135 : Int32)) ∈ lw_all := lw_g (lw_at lw_m4 49 rfl) rfl
theorem q932 : (Jvm.Cond.instanceMethod ({ cls := "java/lang/Integer", name := "intValue", desc := "()I" } : Jvm.MethodName)) ∈ lw_all := lw_g (lw_at lw_m4 107 rfl) rfl
theorem q933 : (Jvm.Cond.selects "java/lang/Integer" ({ cls := "java/lang/Integer", name := "intValue", desc := "()I" } : Jvm.MethodName) ({ cls := "java/lang/Integer", name := "intValue", desc := "()I" } : Jvm.MethodName)) ∈ lw_all := lw_g (lw_at lw_m4 108 rfl) rfl
theorem q934 : (Jvm.Cond.code ({ cls := "java/lang/Integer", name := "intValue", desc := "()I" } : Jvm.MethodName) prog_23_method_27_code (1 : Nat) (Option.some Jvm.ClassFile.FieldType.int)) ∈ lw_all := lw_g (lw_at lw_m4 109 rfl) rfl
theorem q1692 : (Jvm.Cond.castable "java/lang/Integer" "java/lang/Object") ∈ lw_tbl := lw_at lw_m7 147 rfl
theorem in_J12 : ∀ w ∈ wsJ120, w ∈ lw_all := lw_in wsJ120 [654] (by decide +kernel) (by decide +kernel)
/-! jdk/internal/util/ArraysSupport -/
set_option maxRecDepth 100000
def RJ13 : String := "jdk/internal/util/ArraysSupport"
abbrev cJ13_newLength : ByteArray := prog_45_method_27_code
def yJ13_newLength : MethodName := ⟨RJ13, "newLength", "(III)I"⟩
abbrev cJ13_hugeLength : ByteArray := prog_45_method_28_code
def yJ13_hugeLength : MethodName := ⟨RJ13, "hugeLength", "(II)I"⟩
theorem q131 : (Jvm.Cond.initialized "jdk/internal/util/ArraysSupport") ∈ lw_all := lw_g (lw_at lw_m1 26 rfl) rfl
theorem q674 : (Jvm.Cond.static ({ cls := "jdk/internal/util/ArraysSupport", name := "newLength", desc := "(III)I" } : Jvm.MethodName)) ∈ lw_all := lw_g (lw_at lw_m3 89 rfl) rfl
theorem q675 : (Jvm.Cond.code ({ cls := "jdk/internal/util/ArraysSupport", name := "newLength", desc := "(III)I" } : Jvm.MethodName) prog_45_method_27_code (4 : Nat) (Option.some Jvm.ClassFile.FieldType.int)) ∈ lw_all := lw_g (lw_at lw_m3 90 rfl) rfl
theorem q676 : (Jvm.Cond.methodLink "jdk/internal/util/ArraysSupport" (194 : Nat) ({ cls := "java/lang/Math", name := "max", desc := "(II)I" } : Jvm.MethodName)) ∈ lw_all := lw_g (lw_at lw_m3 91 rfl) rfl
theorem q679 : (Jvm.Cond.constant "jdk/internal/util/ArraysSupport" (200 : Nat) (2147483639 : Int32)) ∈ lw_all := lw_g (lw_at lw_m3 94 rfl) rfl
theorem q680 : (Jvm.Cond.methodLink "jdk/internal/util/ArraysSupport" (201 : Nat) ({ cls := "jdk/internal/util/ArraysSupport", name := "hugeLength", desc := "(II)I" } : Jvm.MethodName)) ∈ lw_all := lw_g (lw_at lw_m3 95 rfl) rfl
theorem q681 : (Jvm.Cond.static ({ cls := "jdk/internal/util/ArraysSupport", name := "hugeLength", desc := "(II)I" } : Jvm.MethodName)) ∈ lw_all := lw_g (lw_at lw_m3 96 rfl) rfl
theorem q682 : (Jvm.Cond.code ({ cls := "jdk/internal/util/ArraysSupport", name := "hugeLength", desc := "(II)I" } : Jvm.MethodName) prog_45_method_28_code (3 : Nat) (Option.some Jvm.ClassFile.FieldType.int)) ∈ lw_all := lw_g (lw_at lw_m3 97 rfl) rfl
/-! java/util/Arrays -/
set_option maxRecDepth 100000
def RJ14 : String := "java/util/Arrays"
abbrev cJ14_copyOf : ByteArray := prog_39_method_119_code
def yJ14_copyOf : MethodName := ⟨RJ14, "copyOf", "([Ljava/lang/Object;I)[Ljava/lang/Object;"⟩
abbrev cJ14_copyOf_2 : ByteArray := prog_39_method_120_code
def yJ14_copyOf_2 : MethodName := ⟨RJ14, "copyOf", "([Ljava/lang/Object;ILjava/lang/Class;)[Ljava/lang/Object;"⟩
abbrev cJ14_fill : ByteArray := prog_39_method_103_code
def yJ14_fill : MethodName := ⟨RJ14, "fill", "([II)V"⟩
abbrev cJ14_fill_2 : ByteArray := prog_39_method_101_code
def yJ14_fill_2 : MethodName := ⟨RJ14, "fill", "([JJ)V"⟩
theorem q132 : (Jvm.Cond.initialized "java/util/Arrays") ∈ lw_all := lw_g (lw_at lw_m1 27 rfl) rfl
theorem q684 : (Jvm.Cond.static ({ cls := "java/util/Arrays", name := "copyOf", desc := "([Ljava/lang/Object;I)[Ljava/lang/Object;" } : Jvm.MethodName)) ∈ lw_all := lw_g (lw_at lw_m3 99 rfl) rfl
theorem q685 : (Jvm.Cond.code ({ cls := "java/util/Arrays", name := "copyOf", desc := "([Ljava/lang/Object;I)[Ljava/lang/Object;" } : Jvm.MethodName) prog_39_method_119_code (2 : Nat) (Option.some (Jvm.ClassFile.FieldType.array (Jvm.ClassFile.FieldType.object "java/lang/Object")))) ∈ lw_all := lw_g (lw_at lw_m3 100 rfl) rfl
theorem q686 : (Jvm.Cond.methodLink "java/util/Arrays" (86 : Nat) ({ cls := "java/lang/Object", name := "getClass", desc := "()Ljava/lang/Class;" } : Jvm.MethodName)) ∈ lw_all := lw_g (lw_at lw_m3 101 rfl) rfl
theorem q706 : (Jvm.Cond.methodLink "java/util/Arrays" (300 : Nat) ({ cls := "java/util/Arrays", name := "copyOf", desc := "([Ljava/lang/Object;ILjava/lang/Class;)[Ljava/lang/Object;" } : Jvm.MethodName)) ∈ lw_all := lw_g (lw_at lw_m3 121 rfl) rfl
theorem q707 : (Jvm.Cond.static ({ cls := "java/util/Arrays", name := "copyOf", desc := "([Ljava/lang/Object;ILjava/lang/Class;)[Ljava/lang/Object;" } : Jvm.MethodName)) ∈ lw_all := lw_g (lw_at lw_m3 122 rfl) rfl
theorem q708 : (Jvm.Cond.code ({ cls := "java/util/Arrays", name := "copyOf", desc := "([Ljava/lang/Object;ILjava/lang/Class;)[Ljava/lang/Object;" } : Jvm.MethodName) prog_39_method_120_code (4 : Nat) (Option.some (Jvm.ClassFile.FieldType.array (Jvm.ClassFile.FieldType.object "java/lang/Object")))) ∈ lw_all := lw_g (lw_at lw_m3 123 rfl) rfl
theorem q709 : (Jvm.Cond.classLink "java/util/Arrays" (110 : Nat) "[Ljava/lang/Object;") ∈ lw_all := lw_g (lw_at lw_m3 124 rfl) rfl
theorem q711 : (Jvm.Cond.classLink "java/util/Arrays" (2 : Nat) "java/lang/Object") ∈ lw_all := lw_g (lw_at lw_m3 126 rfl) rfl
theorem q712 : (Jvm.Cond.methodLink "java/util/Arrays" (304 : Nat) ({ cls := "java/lang/Math", name := "min", desc := "(II)I" } : Jvm.MethodName)) ∈ lw_all := lw_g (lw_at lw_m3 127 rfl) rfl
theorem q713 : (Jvm.Cond.methodLink "java/util/Arrays" (150 : Nat) ({ cls := "java/lang/System", name := "arraycopy", desc := "(Ljava/lang/Object;ILjava/lang/Object;II)V" } : Jvm.MethodName)) ∈ lw_all := lw_g (lw_at lw_m3 128 rfl) rfl
theorem q1037 : (Jvm.Cond.static ({ cls := "java/util/Arrays", name := "fill", desc := "([II)V" } : Jvm.MethodName)) ∈ lw_all := lw_g (lw_at lw_m4 212 rfl) rfl
theorem q1038 : (Jvm.Cond.code ({ cls := "java/util/Arrays", name := "fill", desc := "([II)V" } : Jvm.MethodName) prog_39_method_103_code (4 : Nat) (Option.none : Option Jvm.ClassFile.FieldType)) ∈ lw_all := lw_g (lw_at lw_m4 213 rfl) rfl
theorem q1087 : (Jvm.Cond.static ({ cls := "java/util/Arrays", name := "fill", desc := "([JJ)V" } : Jvm.MethodName)) ∈ lw_all := lw_g (lw_at lw_m5 22 rfl) rfl
theorem q1088 : (Jvm.Cond.code ({ cls := "java/util/Arrays", name := "fill", desc := "([JJ)V" } : Jvm.MethodName) prog_39_method_101_code (5 : Nat) (Option.none : Option Jvm.ClassFile.FieldType)) ∈ lw_all := lw_g (lw_at lw_m5 23 rfl) rfl
/-! java/util/Objects -/
set_option maxRecDepth 100000
def RJ15 : String := "java/util/Objects"
abbrev cJ15_checkIndex : ByteArray := prog_42_method_17_code
def yJ15_checkIndex : MethodName := ⟨RJ15, "checkIndex", "(II)I"⟩
theorem q135 : (Jvm.Cond.initialized "java/util/Objects") ∈ lw_all := lw_g (lw_at lw_m1 30 rfl) rfl
theorem q774 : (Jvm.Cond.static ({ cls := "java/util/Objects", name := "checkIndex", desc := "(II)I" } : Jvm.MethodName)) ∈ lw_all := lw_g (lw_at lw_m3 189 rfl) rfl
theorem q775 : (Jvm.Cond.code ({ cls := "java/util/Objects", name := "checkIndex", desc := "(II)I" } : Jvm.MethodName) prog_42_method_17_code (2 : Nat) (Option.some Jvm.ClassFile.FieldType.int)) ∈ lw_all := lw_g (lw_at lw_m3 190 rfl) rfl
theorem q776 : (Jvm.Cond.methodLink "java/util/Objects" (105 : Nat) ({ cls := "jdk/internal/util/Preconditions", name := "checkIndex", desc := "(IILjava/util/function/BiFunction;)I" } : Jvm.MethodName)) ∈ lw_all := lw_g (lw_at lw_m3 191 rfl) rfl
/-! java/lang/Object -/
set_option maxRecDepth 100000
def RJ16 : String := "java/lang/Object"
abbrev cJ16_init : ByteArray := object_method_1_code
def yJ16_init : MethodName := ⟨RJ16, "<init>", "()V"⟩
theorem q144 : (Jvm.Cond.instanceMethod ({ cls := "java/lang/Object", name := "<init>", desc := "()V" } : Jvm.MethodName)) ∈ lw_all := lw_g (lw_at lw_m1 39 rfl) rfl
theorem q145 : (Jvm.Cond.code ({ cls := "java/lang/Object", name := "<init>", desc := "()V" } : Jvm.MethodName) object_method_1_code (1 : Nat) (Option.none : Option Jvm.ClassFile.FieldType)) ∈ lw_all := lw_g (lw_at lw_m1 40 rfl) rfl
theorem q687 : (Jvm.Cond.instanceMethod ({ cls := "java/lang/Object", name := "getClass", desc := "()Ljava/lang/Class;" } : Jvm.MethodName)) ∈ lw_all := lw_g (lw_at lw_m3 102 rfl) rfl
theorem q688 : (Jvm.Cond.sameMethod "java/lang/Object" "java/lang/Object" "getClass" "()Ljava/lang/Class;") ∈ lw_all := lw_g (lw_at lw_m3 103 rfl) rfl
theorem q705 : (Jvm.Cond.native ({ cls := "java/lang/Object", name := "getClass", desc := "()Ljava/lang/Class;" } : Jvm.MethodName)) ∈ lw_all := lw_g (lw_at lw_m3 120 rfl) rfl
theorem q1679 : (Jvm.Cond.initialized "java/lang/Object") ∈ lw_all := lw_g (lw_at lw_m7 134 rfl) rfl
theorem q1700 : (Jvm.Cond.declares ({ cls := "java/lang/Object", name := "getClass", desc := "()Ljava/lang/Class;" } : Jvm.MethodName)) ∈ lw_tbl := lw_at lw_m7 155 rfl
theorem q105 : (Jvm.Cond.initialized "NineGravesLaw") ∈ lw_all := lw_g (lw_at lw_m1 0 rfl) rfl
theorem q138 : (Jvm.Cond.classLink "NineGravesLaw" (7 : Nat) "NineGraves") ∈ lw_all := lw_g (lw_at lw_m1 33 rfl) rfl
theorem q140 : (Jvm.Cond.methodLink "NineGravesLaw" (9 : Nat) ({ cls := "NineGraves", name := "<init>", desc := "()V" } : Jvm.MethodName)) ∈ lw_all := lw_g (lw_at lw_m1 35 rfl) rfl
theorem q271 : (Jvm.Cond.methodLink "NineGravesLaw" (13 : Nat) ({ cls := "NineGraves", name := "town", desc := "(II)I" } : Jvm.MethodName)) ∈ lw_all := lw_g (lw_at lw_m1 166 rfl) rfl
theorem q278 : (Jvm.Cond.methodLink "NineGravesLaw" (18 : Nat) ({ cls := "NineGraves", name := "bone", desc := "(III)I" } : Jvm.MethodName)) ∈ lw_all := lw_g (lw_at lw_m1 173 rfl) rfl
theorem q291 : (Jvm.Cond.methodLink "NineGravesLaw" (23 : Nat) ({ cls := "NineGraves", name := "prove", desc := "(II)Z" } : Jvm.MethodName)) ∈ lw_all := lw_g (lw_at lw_m1 186 rfl) rfl
theorem q307 : (Jvm.Cond.methodLink "NineGravesLaw" (28 : Nat) ({ cls := "NineGraves", name := "feed", desc := "(IIIII)I" } : Jvm.MethodName)) ∈ lw_all := lw_g (lw_at lw_m1 202 rfl) rfl
theorem q315 : (Jvm.Cond.methodLink "NineGravesLaw" (33 : Nat) ({ cls := "NineGraves", name := "end", desc := "(I)I" } : Jvm.MethodName)) ∈ lw_all := lw_g (lw_at lw_m1 210 rfl) rfl
theorem q319 : (Jvm.Cond.methodLink "NineGravesLaw" (38 : Nat) ({ cls := "NineGraves", name := "text", desc := "()I" } : Jvm.MethodName)) ∈ lw_all := lw_g (lw_at lw_m1 214 rfl) rfl
theorem q825 : (Jvm.Cond.methodLink "NineGravesLaw" (43 : Nat) ({ cls := "NineGraves", name := "fault", desc := "(I)I" } : Jvm.MethodName)) ∈ lw_all := lw_g (lw_at lw_m4 0 rfl) rfl
theorem q829 : (Jvm.Cond.methodLink "NineGravesLaw" (47 : Nat) ({ cls := "NineGraves", name := "by", desc := "(I)Z" } : Jvm.MethodName)) ∈ lw_all := lw_g (lw_at lw_m4 4 rfl) rfl
theorem q837 : (Jvm.Cond.methodLink "NineGravesLaw" (52 : Nat) ({ cls := "NineGraves", name := "lend", desc := "(III)I" } : Jvm.MethodName)) ∈ lw_all := lw_g (lw_at lw_m4 12 rfl) rfl
theorem q857 : (Jvm.Cond.methodLink "NineGravesLaw" (56 : Nat) ({ cls := "NineGraves", name := "swap", desc := "(II)Z" } : Jvm.MethodName)) ∈ lw_all := lw_g (lw_at lw_m4 32 rfl) rfl
theorem q861 : (Jvm.Cond.methodLink "NineGravesLaw" (60 : Nat) ({ cls := "NineGraves", name := "steal", desc := "(II)Z" } : Jvm.MethodName)) ∈ lw_all := lw_g (lw_at lw_m4 36 rfl) rfl
theorem q865 : (Jvm.Cond.methodLink "NineGravesLaw" (64 : Nat) ({ cls := "NineGraves", name := "burn", desc := "(I)I" } : Jvm.MethodName)) ∈ lw_all := lw_g (lw_at lw_m4 40 rfl) rfl
theorem q875 : (Jvm.Cond.methodLink "NineGravesLaw" (68 : Nat) ({ cls := "NineGraves", name := "pass", desc := "(I)I" } : Jvm.MethodName)) ∈ lw_all := lw_g (lw_at lw_m4 50 rfl) rfl
theorem q945 : (Jvm.Cond.methodLink "NineGravesLaw" (72 : Nat) ({ cls := "NineGraves", name := "played", desc := "(I)I" } : Jvm.MethodName)) ∈ lw_all := lw_g (lw_at lw_m4 120 rfl) rfl
theorem q980 : (Jvm.Cond.methodLink "NineGravesLaw" (76 : Nat) ({ cls := "NineGraves", name := "undo", desc := "()I" } : Jvm.MethodName)) ∈ lw_all := lw_g (lw_at lw_m4 155 rfl) rfl
theorem q985 : (Jvm.Cond.methodLink "NineGravesLaw" (80 : Nat) ({ cls := "NineGraves", name := "of", desc := "(II)I" } : Jvm.MethodName)) ∈ lw_all := lw_g (lw_at lw_m4 160 rfl) rfl
theorem q1024 : (Jvm.Cond.methodLink "NineGravesLaw" (84 : Nat) ({ cls := "NineGraves", name := "saints", desc := "(II)I" } : Jvm.MethodName)) ∈ lw_all := lw_g (lw_at lw_m4 199 rfl) rfl
theorem q1047 : (Jvm.Cond.methodLink "NineGravesLaw" (88 : Nat) ({ cls := "NineGraves", name := "rules", desc := "(II)Z" } : Jvm.MethodName)) ∈ lw_all := lw_g (lw_at lw_m4 222 rfl) rfl
theorem q1051 : (Jvm.Cond.methodLink "NineGravesLaw" (92 : Nat) ({ cls := "NineGraves", name := "seen", desc := "(IIII)I" } : Jvm.MethodName)) ∈ lw_all := lw_g (lw_at lw_m4 226 rfl) rfl
theorem q1055 : (Jvm.Cond.methodLink "NineGravesLaw" (97 : Nat) ({ cls := "NineGraves", name := "forget", desc := "()I" } : Jvm.MethodName)) ∈ lw_all := lw_g (lw_at lw_m4 230 rfl) rfl
theorem q1059 : (Jvm.Cond.methodLink "NineGravesLaw" (101 : Nat) ({ cls := "NineGraves", name := "same", desc := "(II)Z" } : Jvm.MethodName)) ∈ lw_all := lw_g (lw_at lw_m4 234 rfl) rfl
theorem q1078 : (Jvm.Cond.methodLink "NineGravesLaw" (105 : Nat) ({ cls := "NineGraves", name := "best", desc := "(I)I" } : Jvm.MethodName)) ∈ lw_all := lw_g (lw_at lw_m5 13 rfl) rfl
theorem q1097 : (Jvm.Cond.methodLink "NineGravesLaw" (109 : Nat) ({ cls := "NineGraves", name := "histories", desc := "()J" } : Jvm.MethodName)) ∈ lw_all := lw_g (lw_at lw_m5 32 rfl) rfl
theorem q1101 : (Jvm.Cond.methodLink "NineGravesLaw" (114 : Nat) ({ cls := "NineGraves", name := "led", desc := "(I)I" } : Jvm.MethodName)) ∈ lw_all := lw_g (lw_at lw_m5 36 rfl) rfl
theorem q1105 : (Jvm.Cond.methodLink "NineGravesLaw" (118 : Nat) ({ cls := "NineGraves", name := "chance", desc := "(IIII)J" } : Jvm.MethodName)) ∈ lw_all := lw_g (lw_at lw_m5 40 rfl) rfl
theorem q1117 : (Jvm.Cond.methodLink "NineGravesLaw" (123 : Nat) ({ cls := "NineGraves", name := "round", desc := "(II)I" } : Jvm.MethodName)) ∈ lw_all := lw_g (lw_at lw_m5 52 rfl) rfl
theorem q1125 : (Jvm.Cond.methodLink "NineGravesLaw" (127 : Nat) ({ cls := "NineGraves", name := "pilgrims", desc := "(IIII)I" } : Jvm.MethodName)) ∈ lw_all := lw_g (lw_at lw_m5 60 rfl) rfl
theorem q1137 : (Jvm.Cond.methodLink "NineGravesLaw" (131 : Nat) ({ cls := "NineGraves", name := "image", desc := "()I" } : Jvm.MethodName)) ∈ lw_all := lw_g (lw_at lw_m5 72 rfl) rfl
theorem q1141 : (Jvm.Cond.methodLink "NineGravesLaw" (135 : Nat) ({ cls := "NineGraves", name := "back", desc := "()I" } : Jvm.MethodName)) ∈ lw_all := lw_g (lw_at lw_m5 76 rfl) rfl
theorem q1145 : (Jvm.Cond.methodLink "NineGravesLaw" (139 : Nat) ({ cls := "NineGraves", name := "about", desc := "(I)I" } : Jvm.MethodName)) ∈ lw_all := lw_g (lw_at lw_m5 80 rfl) rfl
theorem q1153 : (Jvm.Cond.classLink "NineGravesLaw" (10 : Nat) "NineGravesModel") ∈ lw_all := lw_g (lw_at lw_m5 88 rfl) rfl
theorem q1155 : (Jvm.Cond.methodLink "NineGravesLaw" (12 : Nat) ({ cls := "NineGravesModel", name := "<init>", desc := "()V" } : Jvm.MethodName)) ∈ lw_all := lw_g (lw_at lw_m5 90 rfl) rfl
theorem q1270 : (Jvm.Cond.methodLink "NineGravesLaw" (17 : Nat) ({ cls := "NineGravesModel", name := "town", desc := "(II)I" } : Jvm.MethodName)) ∈ lw_all := lw_g (lw_at lw_m5 205 rfl) rfl
theorem q1277 : (Jvm.Cond.methodLink "NineGravesLaw" (22 : Nat) ({ cls := "NineGravesModel", name := "bone", desc := "(III)I" } : Jvm.MethodName)) ∈ lw_all := lw_g (lw_at lw_m5 212 rfl) rfl
theorem q1288 : (Jvm.Cond.methodLink "NineGravesLaw" (79 : Nat) ({ cls := "NineGravesModel", name := "undo", desc := "()I" } : Jvm.MethodName)) ∈ lw_all := lw_g (lw_at lw_m5 223 rfl) rfl
theorem q1292 : (Jvm.Cond.methodLink "NineGravesLaw" (27 : Nat) ({ cls := "NineGravesModel", name := "prove", desc := "(II)Z" } : Jvm.MethodName)) ∈ lw_all := lw_g (lw_at lw_m5 227 rfl) rfl
theorem q1304 : (Jvm.Cond.methodLink "NineGravesLaw" (55 : Nat) ({ cls := "NineGravesModel", name := "lend", desc := "(III)I" } : Jvm.MethodName)) ∈ lw_all := lw_g (lw_at lw_m5 239 rfl) rfl
theorem q1308 : (Jvm.Cond.methodLink "NineGravesLaw" (59 : Nat) ({ cls := "NineGravesModel", name := "swap", desc := "(II)Z" } : Jvm.MethodName)) ∈ lw_all := lw_g (lw_at lw_m6 3 rfl) rfl
theorem q1312 : (Jvm.Cond.methodLink "NineGravesLaw" (63 : Nat) ({ cls := "NineGravesModel", name := "steal", desc := "(II)Z" } : Jvm.MethodName)) ∈ lw_all := lw_g (lw_at lw_m6 7 rfl) rfl
theorem q1316 : (Jvm.Cond.methodLink "NineGravesLaw" (67 : Nat) ({ cls := "NineGravesModel", name := "burn", desc := "(I)I" } : Jvm.MethodName)) ∈ lw_all := lw_g (lw_at lw_m6 11 rfl) rfl
theorem q1324 : (Jvm.Cond.methodLink "NineGravesLaw" (71 : Nat) ({ cls := "NineGravesModel", name := "pass", desc := "(I)I" } : Jvm.MethodName)) ∈ lw_all := lw_g (lw_at lw_m6 19 rfl) rfl
theorem q1358 : (Jvm.Cond.methodLink "NineGravesLaw" (32 : Nat) ({ cls := "NineGravesModel", name := "feed", desc := "(IIIII)I" } : Jvm.MethodName)) ∈ lw_all := lw_g (lw_at lw_m6 53 rfl) rfl
theorem q1366 : (Jvm.Cond.methodLink "NineGravesLaw" (37 : Nat) ({ cls := "NineGravesModel", name := "end", desc := "(I)I" } : Jvm.MethodName)) ∈ lw_all := lw_g (lw_at lw_m6 61 rfl) rfl
theorem q1370 : (Jvm.Cond.methodLink "NineGravesLaw" (42 : Nat) ({ cls := "NineGravesModel", name := "text", desc := "()I" } : Jvm.MethodName)) ∈ lw_all := lw_g (lw_at lw_m6 65 rfl) rfl
theorem q1499 : (Jvm.Cond.methodLink "NineGravesLaw" (46 : Nat) ({ cls := "NineGravesModel", name := "fault", desc := "(I)I" } : Jvm.MethodName)) ∈ lw_all := lw_g (lw_at lw_m6 194 rfl) rfl
theorem q1503 : (Jvm.Cond.methodLink "NineGravesLaw" (51 : Nat) ({ cls := "NineGravesModel", name := "by", desc := "(I)Z" } : Jvm.MethodName)) ∈ lw_all := lw_g (lw_at lw_m6 198 rfl) rfl
theorem q1507 : (Jvm.Cond.methodLink "NineGravesLaw" (75 : Nat) ({ cls := "NineGravesModel", name := "played", desc := "(I)I" } : Jvm.MethodName)) ∈ lw_all := lw_g (lw_at lw_m6 202 rfl) rfl
theorem q1520 : (Jvm.Cond.methodLink "NineGravesLaw" (83 : Nat) ({ cls := "NineGravesModel", name := "of", desc := "(II)I" } : Jvm.MethodName)) ∈ lw_all := lw_g (lw_at lw_m6 215 rfl) rfl
theorem q1528 : (Jvm.Cond.methodLink "NineGravesLaw" (87 : Nat) ({ cls := "NineGravesModel", name := "saints", desc := "(II)I" } : Jvm.MethodName)) ∈ lw_all := lw_g (lw_at lw_m6 223 rfl) rfl
theorem q1560 : (Jvm.Cond.methodLink "NineGravesLaw" (91 : Nat) ({ cls := "NineGravesModel", name := "rules", desc := "(II)Z" } : Jvm.MethodName)) ∈ lw_all := lw_g (lw_at lw_m7 15 rfl) rfl
theorem q1564 : (Jvm.Cond.methodLink "NineGravesLaw" (96 : Nat) ({ cls := "NineGravesModel", name := "seen", desc := "(IIII)I" } : Jvm.MethodName)) ∈ lw_all := lw_g (lw_at lw_m7 19 rfl) rfl
theorem q1568 : (Jvm.Cond.methodLink "NineGravesLaw" (100 : Nat) ({ cls := "NineGravesModel", name := "forget", desc := "()I" } : Jvm.MethodName)) ∈ lw_all := lw_g (lw_at lw_m7 23 rfl) rfl
theorem q1572 : (Jvm.Cond.methodLink "NineGravesLaw" (104 : Nat) ({ cls := "NineGravesModel", name := "same", desc := "(II)Z" } : Jvm.MethodName)) ∈ lw_all := lw_g (lw_at lw_m7 27 rfl) rfl
theorem q1583 : (Jvm.Cond.methodLink "NineGravesLaw" (108 : Nat) ({ cls := "NineGravesModel", name := "best", desc := "(I)I" } : Jvm.MethodName)) ∈ lw_all := lw_g (lw_at lw_m7 38 rfl) rfl
theorem q1609 : (Jvm.Cond.methodLink "NineGravesLaw" (113 : Nat) ({ cls := "NineGravesModel", name := "histories", desc := "()J" } : Jvm.MethodName)) ∈ lw_all := lw_g (lw_at lw_m7 64 rfl) rfl
theorem q1613 : (Jvm.Cond.methodLink "NineGravesLaw" (117 : Nat) ({ cls := "NineGravesModel", name := "led", desc := "(I)I" } : Jvm.MethodName)) ∈ lw_all := lw_g (lw_at lw_m7 68 rfl) rfl
theorem q1617 : (Jvm.Cond.methodLink "NineGravesLaw" (122 : Nat) ({ cls := "NineGravesModel", name := "chance", desc := "(IIII)J" } : Jvm.MethodName)) ∈ lw_all := lw_g (lw_at lw_m7 72 rfl) rfl
theorem q1631 : (Jvm.Cond.methodLink "NineGravesLaw" (126 : Nat) ({ cls := "NineGravesModel", name := "round", desc := "(II)I" } : Jvm.MethodName)) ∈ lw_all := lw_g (lw_at lw_m7 86 rfl) rfl
theorem q1647 : (Jvm.Cond.methodLink "NineGravesLaw" (130 : Nat) ({ cls := "NineGravesModel", name := "pilgrims", desc := "(IIII)I" } : Jvm.MethodName)) ∈ lw_all := lw_g (lw_at lw_m7 102 rfl) rfl
theorem q1662 : (Jvm.Cond.methodLink "NineGravesLaw" (134 : Nat) ({ cls := "NineGravesModel", name := "image", desc := "()I" } : Jvm.MethodName)) ∈ lw_all := lw_g (lw_at lw_m7 117 rfl) rfl
theorem q1666 : (Jvm.Cond.methodLink "NineGravesLaw" (138 : Nat) ({ cls := "NineGravesModel", name := "back", desc := "()I" } : Jvm.MethodName)) ∈ lw_all := lw_g (lw_at lw_m7 121 rfl) rfl
theorem q1670 : (Jvm.Cond.methodLink "NineGravesLaw" (142 : Nat) ({ cls := "NineGravesModel", name := "about", desc := "(I)I" } : Jvm.MethodName)) ∈ lw_all := lw_g (lw_at lw_m7 125 rfl) rfl
theorem q995 : (Jvm.Cond.interfaceMethod "NineGraves$Asked" "NineGraves$Asked" "is" "([I)Z") ∈ lw_tbl := lw_at lw_m4 170 rfl
theorem q996 : (Jvm.Cond.declares ({ cls := "NineGraves$Asked", name := "is", desc := "([I)Z" } : Jvm.MethodName)) ∈ lw_tbl := lw_at lw_m4 171 rfl
theorem q897 : (Jvm.Cond.interfaceMethod "NineGraves$Sum" "NineGraves$Sum" "of" "([I)J") ∈ lw_tbl := lw_at lw_m4 72 rfl
theorem q898 : (Jvm.Cond.declares ({ cls := "NineGraves$Sum", name := "of", desc := "([I)J" } : Jvm.MethodName)) ∈ lw_tbl := lw_at lw_m4 73 rfl
theorem q1706 : (Jvm.Cond.castable "[B" "java/lang/Object") ∈ lw_tbl := lw_at lw_m7 161 rfl
theorem q1703 : (Jvm.Cond.castable "[I" "java/lang/Object") ∈ lw_tbl := lw_at lw_m7 158 rfl
theorem q1708 : (Jvm.Cond.castable "[J" "java/lang/Object") ∈ lw_tbl := lw_at lw_m7 163 rfl
theorem q1702 : (Jvm.Cond.castable "[LNineGraves$Text;" "java/lang/Object") ∈ lw_tbl := lw_at lw_m7 157 rfl
theorem q1698 : (Jvm.Cond.sameMethod "[Ljava/lang/Object;" "java/lang/Object" "getClass" "()Ljava/lang/Class;") ∈ lw_all := lw_g (lw_at lw_m7 153 rfl) rfl
theorem q1699 : (Jvm.Cond.selects "[Ljava/lang/Object;" ({ cls := "java/lang/Object", name := "getClass", desc := "()Ljava/lang/Class;" } : Jvm.MethodName) ({ cls := "java/lang/Object", name := "getClass", desc := "()Ljava/lang/Class;" } : Jvm.MethodName)) ∈ lw_all := lw_g (lw_at lw_m7 154 rfl) rfl
theorem q1709 : (Jvm.Cond.castable "[Ljava/lang/Object;" "java/lang/Object") ∈ lw_tbl := lw_at lw_m7 164 rfl
theorem q1710 : (Jvm.Cond.castable "[Ljava/lang/String;" "java/lang/Object") ∈ lw_tbl := lw_at lw_m7 165 rfl
theorem q1707 : (Jvm.Cond.castable "[Z" "java/lang/Object") ∈ lw_tbl := lw_at lw_m7 162 rfl
theorem q1701 : (Jvm.Cond.castable "[[I" "java/lang/Object") ∈ lw_tbl := lw_at lw_m7 156 rfl
theorem q1705 : (Jvm.Cond.castable "[[J" "java/lang/Object") ∈ lw_tbl := lw_at lw_m7 160 rfl
theorem q1704 : (Jvm.Cond.castable "[[Z" "java/lang/Object") ∈ lw_tbl := lw_at lw_m7 159 rfl
theorem q130 : (Jvm.Cond.initialized "java/lang/Integer$IntegerCache") ∈ lw_all := lw_g (lw_at lw_m1 25 rfl) rfl
theorem q641 : (Jvm.Cond.laysStatic "java/lang/Integer$IntegerCache" "high" "I") ∈ lw_tbl := lw_at lw_m3 56 rfl
theorem q643 : (Jvm.Cond.laysStatic "java/lang/Integer$IntegerCache" "cache" "[Ljava/lang/Integer;") ∈ lw_tbl := lw_at lw_m3 58 rfl
theorem q108 : (Jvm.Cond.initialized "java/lang/System") ∈ lw_all := lw_g (lw_at lw_m1 3 rfl) rfl
theorem q199 : (Jvm.Cond.static ({ cls := "java/lang/System", name := "arraycopy", desc := "(Ljava/lang/Object;ILjava/lang/Object;II)V" } : Jvm.MethodName)) ∈ lw_all := lw_g (lw_at lw_m1 94 rfl) rfl
theorem q200 : (Jvm.Cond.native ({ cls := "java/lang/System", name := "arraycopy", desc := "(Ljava/lang/Object;ILjava/lang/Object;II)V" } : Jvm.MethodName)) ∈ lw_all := lw_g (lw_at lw_m1 95 rfl) rfl
theorem q153 : (Jvm.Cond.arrayOver (Jvm.ClassFile.FieldType.array Jvm.ClassFile.FieldType.int)) ∈ lw_tbl := lw_at lw_m1 48 rfl
theorem q155 : (Jvm.Cond.arrayOver (Jvm.ClassFile.FieldType.object "NineGraves$Text")) ∈ lw_tbl := lw_at lw_m1 50 rfl
theorem q185 : (Jvm.Cond.arrayClass Jvm.ClassFile.FieldType.int) ∈ lw_all := lw_g (lw_at lw_m1 80 rfl) rfl
theorem q188 : (Jvm.Cond.arrayOver (Jvm.ClassFile.FieldType.array Jvm.ClassFile.FieldType.boolean)) ∈ lw_tbl := lw_at lw_m1 83 rfl
theorem q190 : (Jvm.Cond.arrayOver (Jvm.ClassFile.FieldType.array Jvm.ClassFile.FieldType.long)) ∈ lw_tbl := lw_at lw_m1 85 rfl
theorem q268 : (Jvm.Cond.arrayClass Jvm.ClassFile.FieldType.byte) ∈ lw_all := lw_g (lw_at lw_m1 163 rfl) rfl
theorem q269 : (Jvm.Cond.arrayClass Jvm.ClassFile.FieldType.boolean) ∈ lw_all := lw_g (lw_at lw_m1 164 rfl) rfl
theorem q270 : (Jvm.Cond.arrayClass Jvm.ClassFile.FieldType.long) ∈ lw_all := lw_g (lw_at lw_m1 165 rfl) rfl
theorem q710 : (Jvm.Cond.arrayOver (Jvm.ClassFile.FieldType.object "java/lang/Object")) ∈ lw_tbl := lw_at lw_m3 125 rfl
theorem q1737 : (Jvm.Cond.arrayOver (Jvm.ClassFile.FieldType.object "java/lang/String")) ∈ lw_tbl := lw_at lw_m7 192 rfl
abbrev vwCl : List vw_C := [(RX0, TX0, 21), (RX1, TX1, 7), (RX2, TX2, 36), (RX3, TX3, 8), (RX4, TX4, 6), (RX5, TX5, 8), (RX6, TX6, 3), (RX7, TX7, 1), (RX8, TX8, 1), (RX9, TX9, 1), (RX10, TX10, 1), (RX11, TX11, 3), (RX12, TX12, 2), (RX13, TX13, 5), (RJ2, TJ2, 3), (RJ12, TJ12, 1)]
