set_option maxRecDepth 100000
/-! HutForShow -/
def RX0 : String := "HutForShow"
def TX0 : u_T := fun k => match k with
  | 0 => ("HutForShow", "guard", "LHutForShow$Act;", true)
  | 1 => ("HutForShow", "feed", "LHutForShow$Act;", true)
  | 2 => ("HutForShow", "huts", "[LHutForShow$Place;", true)
  | 3 => ("HutForShow", "hutMany", "I", false)
  | 4 => ("HutForShow", "things", "[LHutForShow$Thing;", true)
  | 5 => ("HutForShow", "thingMany", "I", false)
  | 6 => ("HutForShow", "settings", "[I", true)
  | 7 => ("HutForShow", "wood", "LHutForShow$Wood;", true)
  | 8 => ("HutForShow", "model", "LHutForShow$Wood;", true)
  | 9 => ("HutForShow", "habits", "[LHutForShow$Habit;", true)
  | 10 => ("HutForShow", "tastes", "[LHutForShow$Taste;", true)
  | 11 => ("HutForShow", "tape", "[B", true)
  | 12 => ("HutForShow", "length", "I", false)
  | 13 => ("HutForShow", "reader", "LHutForShow$Reader;", true)
  | 14 => ("HutForShow", "hand", "[I", true)
  | 15 => ("HutForShow", "order", "[I", true)
  | 16 => ("HutForShow", "even", "[I", true)
  | 17 => ("HutForShow", "low", "[I", true)
  | 18 => ("HutForShow", "high", "[I", true)
  | 19 => ("HutForShow", "guestMany", "I", false)
  | 20 => ("HutForShow", "seenMark", "[I", true)
  | 21 => ("HutForShow", "seenHut", "[I", true)
  | 22 => ("HutForShow", "seenHour", "[I", true)
  | 23 => ("HutForShow", "seenMany", "I", false)
  | 24 => ("HutForShow", "metAt", "[I", true)
  | 25 => ("HutForShow", "choices", "[LHutForShow$Pair;", true)
  | 26 => ("HutForShow", "firsts", "[Z", true)
  | 27 => ("HutForShow", "choiceMany", "I", false)
  | 28 => ("HutForShow", "pairs", "[LHutForShow$Pair;", true)
  | 29 => ("HutForShow", "pairMany", "I", false)
  | 30 => ("HutForShow", "spots", "[LHutForShow$Place;", true)
  | 31 => ("HutForShow", "spotMany", "I", false)
  | _ => ("HutForShow", "ways", "[[I", true)
def tyX0 : Nat → FieldType := fun k => match k with
  | 0 => .object "HutForShow$Act"
  | 1 => .object "HutForShow$Act"
  | 2 => .array (.object "HutForShow$Place")
  | 3 => .int
  | 4 => .array (.object "HutForShow$Thing")
  | 5 => .int
  | 6 => .array .int
  | 7 => .object "HutForShow$Wood"
  | 8 => .object "HutForShow$Wood"
  | 9 => .array (.object "HutForShow$Habit")
  | 10 => .array (.object "HutForShow$Taste")
  | 11 => .array .byte
  | 12 => .int
  | 13 => .object "HutForShow$Reader"
  | 14 => .array .int
  | 15 => .array .int
  | 16 => .array .int
  | 17 => .array .int
  | 18 => .array .int
  | 19 => .int
  | 20 => .array .int
  | 21 => .array .int
  | 22 => .array .int
  | 23 => .int
  | 24 => .array .int
  | 25 => .array (.object "HutForShow$Pair")
  | 26 => .array .boolean
  | 27 => .int
  | 28 => .array (.object "HutForShow$Pair")
  | 29 => .int
  | 30 => .array (.object "HutForShow$Place")
  | 31 => .int
  | _ => .array (.array .int)
abbrev wsX00 : List Cond := u_ws RX0 TX0 33
theorem nmX0 : ∀ a, a < 33 → ∀ b, b < 33 → a ≠ b → (TX0 a).2.1 ≠ (TX0 b).2.1 := by decide +kernel
theorem tyX0_ok : ∀ k, k < 33 → parseFieldDescriptor (TX0 k).2.2.1 = some (tyX0 k) := by decide +kernel
abbrev cX0_init : ByteArray := prog_1_method_3_code
def yX0_init : MethodName := ⟨RX0, "<init>", "()V"⟩
abbrev cX0_hut : ByteArray := prog_1_method_6_code
def yX0_hut : MethodName := ⟨RX0, "hut", "(III)I"⟩
abbrev cX0_isSpan : ByteArray := prog_1_method_5_code
def yX0_isSpan : MethodName := ⟨RX0, "isSpan", "(I)Z"⟩
abbrev cX0_isIn : ByteArray := prog_1_method_1_code
def yX0_isIn : MethodName := ⟨RX0, "isIn", "(JJJ)Z"⟩
abbrev cX0_far : ByteArray := prog_1_method_7_code
def yX0_far : MethodName := ⟨RX0, "far", "(II)I"⟩
abbrev cX0_isHut : ByteArray := prog_1_method_4_code
def yX0_isHut : MethodName := ⟨RX0, "isHut", "(I)Z"⟩
abbrev cX0_thing : ByteArray := prog_1_method_8_code
def yX0_thing : MethodName := ⟨RX0, "thing", "(IIII)I"⟩
abbrev cX0_at : ByteArray := prog_1_method_10_code
def yX0_at : MethodName := ⟨RX0, "at", "(II)I"⟩
abbrev cX0_isThing : ByteArray := prog_1_method_9_code
def yX0_isThing : MethodName := ⟨RX0, "isThing", "(I)Z"⟩
abbrev cX0_of : ByteArray := prog_1_method_11_code
def yX0_of : MethodName := ⟨RX0, "of", "(II)I"⟩
abbrev cX0_set : ByteArray := prog_1_method_12_code
def yX0_set : MethodName := ⟨RX0, "set", "(II)I"⟩
abbrev cX0_hours : ByteArray := prog_1_method_14_code
def yX0_hours : MethodName := ⟨RX0, "hours", "(I)I"⟩
abbrev cX0_areHours : ByteArray := prog_1_method_13_code
def yX0_areHours : MethodName := ⟨RX0, "areHours", "(I)Z"⟩
abbrev cX0_write : ByteArray := prog_1_method_15_code
def yX0_write : MethodName := ⟨RX0, "write", "(JI)I"⟩
abbrev cX0_erase : ByteArray := prog_1_method_16_code
def yX0_erase : MethodName := ⟨RX0, "erase", "()I"⟩
abbrev cX0_fault : ByteArray := prog_1_method_18_code
def yX0_fault : MethodName := ⟨RX0, "fault", "(I)I"⟩
abbrev cX0_faultOf : ByteArray := prog_1_method_17_code
def yX0_faultOf : MethodName := ⟨RX0, "faultOf", "(LHutForShow$Told;)I"⟩
abbrev cX0_habit : ByteArray := prog_1_method_19_code
def yX0_habit : MethodName := ⟨RX0, "habit", "(I)I"⟩
abbrev cX0_taste : ByteArray := prog_1_method_21_code
def yX0_taste : MethodName := ⟨RX0, "taste", "(I)I"⟩
abbrev cX0_isVisitor : ByteArray := prog_1_method_20_code
def yX0_isVisitor : MethodName := ⟨RX0, "isVisitor", "(I)Z"⟩
abbrev cX0_act : ByteArray := prog_1_method_22_code
def yX0_act : MethodName := ⟨RX0, "act", "(I)I"⟩
abbrev cX0_worth : ByteArray := prog_1_method_24_code
def yX0_worth : MethodName := ⟨RX0, "worth", "(II)I"⟩
abbrev cX0_worthOf : ByteArray := prog_1_method_23_code
def yX0_worthOf : MethodName := ⟨RX0, "worthOf", "(ILHutForShow$Wood;I)I"⟩
abbrev cX0_choose : ByteArray := prog_1_method_25_code
def yX0_choose : MethodName := ⟨RX0, "choose", "(I)I"⟩
abbrev cX0_would : ByteArray := prog_1_method_27_code
def yX0_would : MethodName := ⟨RX0, "would", "(III)I"⟩
abbrev cX0_live : ByteArray := prog_1_method_26_code
def yX0_live : MethodName := ⟨RX0, "live", "(IZ)V"⟩
abbrev cX0_lost : ByteArray := prog_1_method_28_code
def yX0_lost : MethodName := ⟨RX0, "lost", "(I)I"⟩
abbrev cX0_uneven : ByteArray := prog_1_method_32_code
def yX0_uneven : MethodName := ⟨RX0, "uneven", "(JI)I"⟩
abbrev cX0_layHand : ByteArray := prog_1_method_29_code
def yX0_layHand : MethodName := ⟨RX0, "layHand", "(JI)I"⟩
abbrev cX0_unevenOf : ByteArray := prog_1_method_31_code
def yX0_unevenOf : MethodName := ⟨RX0, "unevenOf", "([II)I"⟩
abbrev cX0_looks : ByteArray := prog_1_method_30_code
def yX0_looks : MethodName := ⟨RX0, "looks", "(II)I"⟩
abbrev cX0_evenest : ByteArray := prog_1_method_35_code
def yX0_evenest : MethodName := ⟨RX0, "evenest", "(JII)I"⟩
abbrev cX0_isInHand : ByteArray := prog_1_method_34_code
def yX0_isInHand : MethodName := ⟨RX0, "isInHand", "(II)Z"⟩
abbrev cX0_hasAhead : ByteArray := prog_1_method_33_code
def yX0_hasAhead : MethodName := ⟨RX0, "hasAhead", "([II)Z"⟩
abbrev cX0_guest : ByteArray := prog_1_method_36_code
def yX0_guest : MethodName := ⟨RX0, "guest", "(II)I"⟩
abbrev cX0_held : ByteArray := prog_1_method_38_code
def yX0_held : MethodName := ⟨RX0, "held", "(I)I"⟩
abbrev cX0_stay : ByteArray := prog_1_method_37_code
def yX0_stay : MethodName := ⟨RX0, "stay", "(I)I"⟩
abbrev cX0_isSet : ByteArray := prog_1_method_2_code
def yX0_isSet : MethodName := ⟨RX0, "isSet", "(II)Z"⟩
abbrev cX0_row : ByteArray := prog_1_method_41_code
def yX0_row : MethodName := ⟨RX0, "row", "(II)I"⟩
abbrev cX0_isAhead : ByteArray := prog_1_method_40_code
def yX0_isAhead : MethodName := ⟨RX0, "isAhead", "(II)Z"⟩
abbrev cX0_ith : ByteArray := prog_1_method_39_code
def yX0_ith : MethodName := ⟨RX0, "ith", "(II)I"⟩
abbrev cX0_seen : ByteArray := prog_1_method_43_code
def yX0_seen : MethodName := ⟨RX0, "seen", "(III)I"⟩
abbrev cX0_isMark : ByteArray := prog_1_method_42_code
def yX0_isMark : MethodName := ⟨RX0, "isMark", "(I)Z"⟩
abbrev cX0_whose : ByteArray := prog_1_method_45_code
def yX0_whose : MethodName := ⟨RX0, "whose", "(I)I"⟩
abbrev cX0_firstOf : ByteArray := prog_1_method_44_code
def yX0_firstOf : MethodName := ⟨RX0, "firstOf", "(I)I"⟩
abbrev cX0_thieves : ByteArray := prog_1_method_46_code
def yX0_thieves : MethodName := ⟨RX0, "thieves", "(I)I"⟩
abbrev cX0_gains : ByteArray := prog_1_method_50_code
def yX0_gains : MethodName := ⟨RX0, "gains", "(II)I"⟩
abbrev cX0_areHuts : ByteArray := prog_1_method_49_code
def yX0_areHuts : MethodName := ⟨RX0, "areHuts", "(I)Z"⟩
abbrev cX0_gainsOf : ByteArray := prog_1_method_48_code
def yX0_gainsOf : MethodName := ⟨RX0, "gainsOf", "(II)I"⟩
abbrev cX0_nearest : ByteArray := prog_1_method_47_code
def yX0_nearest : MethodName := ⟨RX0, "nearest", "(I)I"⟩
abbrev cX0_even : ByteArray := prog_1_method_52_code
def yX0_even : MethodName := ⟨RX0, "even", "(I)I"⟩
abbrev cX0_changes : ByteArray := prog_1_method_51_code
def yX0_changes : MethodName := ⟨RX0, "changes", "(I)I"⟩
abbrev cX0_ring : ByteArray := prog_1_method_53_code
def yX0_ring : MethodName := ⟨RX0, "ring", "(I)I"⟩
abbrev cX0_chose : ByteArray := prog_1_method_55_code
def yX0_chose : MethodName := ⟨RX0, "chose", "(IIIIZ)I"⟩
abbrev cX0_areTold : ByteArray := prog_1_method_54_code
def yX0_areTold : MethodName := ⟨RX0, "areTold", "(IIII)Z"⟩
abbrev cX0_may : ByteArray := prog_1_method_57_code
def yX0_may : MethodName := ⟨RX0, "may", "(I)I"⟩
abbrev cX0_mayBe : ByteArray := prog_1_method_56_code
def yX0_mayBe : MethodName := ⟨RX0, "mayBe", "(II)Z"⟩
abbrev cX0_pair : ByteArray := prog_1_method_58_code
def yX0_pair : MethodName := ⟨RX0, "pair", "(IIII)I"⟩
abbrev cX0_parting : ByteArray := prog_1_method_59_code
def yX0_parting : MethodName := ⟨RX0, "parting", "()I"⟩
abbrev cX0_spot : ByteArray := prog_1_method_60_code
def yX0_spot : MethodName := ⟨RX0, "spot", "(II)I"⟩
abbrev cX0_room : ByteArray := prog_1_method_62_code
def yX0_room : MethodName := ⟨RX0, "room", "()I"⟩
abbrev cX0_areApart : ByteArray := prog_1_method_61_code
def yX0_areApart : MethodName := ⟨RX0, "areApart", "(I)Z"⟩
abbrev cX0_trip : ByteArray := prog_1_method_63_code
def yX0_trip : MethodName := ⟨RX0, "trip", "(I)I"⟩
abbrev cX0_count : ByteArray := prog_1_method_64_code
def yX0_count : MethodName := ⟨RX0, "count", "(I)I"⟩
theorem q54 : (Jvm.Cond.initialized "HutForShow") ∈ lw_all := lw_g (lw_at lw_m1 1 rfl) rfl
theorem q83 : (Jvm.Cond.instantiable "HutForShow" (33 : Nat)) ∈ lw_all := lw_g (lw_at lw_m1 30 rfl) rfl
theorem q85 : (Jvm.Cond.instanceMethod ({ cls := "HutForShow", name := "<init>", desc := "()V" } : Jvm.MethodName)) ∈ lw_all := lw_g (lw_at lw_m1 32 rfl) rfl
theorem q86 : (Jvm.Cond.code ({ cls := "HutForShow", name := "<init>", desc := "()V" } : Jvm.MethodName) prog_1_method_3_code (1 : Nat) (Option.none : Option Jvm.ClassFile.FieldType)) ∈ lw_all := lw_g (lw_at lw_m1 33 rfl) rfl
theorem q87 : (Jvm.Cond.methodLink "HutForShow" (3 : Nat) ({ cls := "java/lang/Object", name := "<init>", desc := "()V" } : Jvm.MethodName)) ∈ lw_all := lw_g (lw_at lw_m1 34 rfl) rfl
theorem q90 : (Jvm.Cond.classLink "HutForShow" (9 : Nat) "HutForShow$Guard") ∈ lw_all := lw_g (lw_at lw_m1 37 rfl) rfl
theorem q92 : (Jvm.Cond.methodLinkNest "HutForShow" (11 : Nat) ({ cls := "HutForShow$Guard", name := "<init>", desc := "()V" } : Jvm.MethodName) "HutForShow") ∈ lw_tbl := lw_at lw_m1 39 rfl
theorem q100 : (Jvm.Cond.classLink "HutForShow" (18 : Nat) "HutForShow$Feed") ∈ lw_all := lw_g (lw_at lw_m1 47 rfl) rfl
theorem q102 : (Jvm.Cond.methodLinkNest "HutForShow" (20 : Nat) ({ cls := "HutForShow$Feed", name := "<init>", desc := "()V" } : Jvm.MethodName) "HutForShow") ∈ lw_tbl := lw_at lw_m1 49 rfl
theorem q110 : (Jvm.Cond.classLink "HutForShow" (24 : Nat) "HutForShow$Place") ∈ lw_all := lw_g (lw_at lw_m1 57 rfl) rfl
theorem q112 : (Jvm.Cond.classLink "HutForShow" (30 : Nat) "HutForShow$Thing") ∈ lw_all := lw_g (lw_at lw_m1 59 rfl) rfl
theorem q114 : (Jvm.Cond.classLink "HutForShow" (40 : Nat) "HutForShow$Wood") ∈ lw_all := lw_g (lw_at lw_m1 61 rfl) rfl
theorem q116 : (Jvm.Cond.methodLinkNest "HutForShow" (42 : Nat) ({ cls := "HutForShow$Wood", name := "<init>", desc := "(LHutForShow;)V" } : Jvm.MethodName) "HutForShow") ∈ lw_tbl := lw_at lw_m1 63 rfl
theorem q124 : (Jvm.Cond.fieldLinkNest "HutForShow" (202 : Nat) "HutForShow$Wood" "hour" "I" "HutForShow") ∈ lw_tbl := lw_at lw_m1 71 rfl
theorem q129 : (Jvm.Cond.fieldLinkNest "HutForShow" (142 : Nat) "HutForShow$Wood" "sticks" "[I" "HutForShow") ∈ lw_tbl := lw_at lw_m1 76 rfl
theorem q133 : (Jvm.Cond.fieldLinkNest "HutForShow" (186 : Nat) "HutForShow$Wood" "hunger" "[I" "HutForShow") ∈ lw_tbl := lw_at lw_m1 80 rfl
theorem q136 : (Jvm.Cond.fieldLinkNest "HutForShow" (189 : Nat) "HutForShow$Wood" "taken" "[I" "HutForShow") ∈ lw_tbl := lw_at lw_m1 83 rfl
theorem q139 : (Jvm.Cond.fieldLinkNest "HutForShow" (192 : Nat) "HutForShow$Wood" "codes" "[I" "HutForShow") ∈ lw_tbl := lw_at lw_m1 86 rfl
theorem q144 : (Jvm.Cond.fieldLinkNest "HutForShow" (168 : Nat) "HutForShow$Wood" "at" "[I" "HutForShow") ∈ lw_tbl := lw_at lw_m1 91 rfl
theorem q166 : (Jvm.Cond.classLink "HutForShow" (52 : Nat) "HutForShow$Habit") ∈ lw_all := lw_g (lw_at lw_m1 113 rfl) rfl
theorem q168 : (Jvm.Cond.classLink "HutForShow" (58 : Nat) "HutForShow$Taste") ∈ lw_all := lw_g (lw_at lw_m1 115 rfl) rfl
theorem q170 : (Jvm.Cond.classLink "HutForShow" (68 : Nat) "HutForShow$Reader") ∈ lw_all := lw_g (lw_at lw_m1 117 rfl) rfl
theorem q172 : (Jvm.Cond.methodLinkNest "HutForShow" (70 : Nat) ({ cls := "HutForShow$Reader", name := "<init>", desc := "(LHutForShow;)V" } : Jvm.MethodName) "HutForShow") ∈ lw_tbl := lw_at lw_m1 119 rfl
theorem q190 : (Jvm.Cond.classLink "HutForShow" (102 : Nat) "HutForShow$Pair") ∈ lw_all := lw_g (lw_at lw_m1 137 rfl) rfl
theorem q192 : (Jvm.Cond.classLink "HutForShow" (118 : Nat) "[[I") ∈ lw_all := lw_g (lw_at lw_m1 139 rfl) rfl
theorem q194 : (Jvm.Cond.fieldLink "HutForShow" (12 : Nat) "HutForShow" "guard" "LHutForShow$Act;") ∈ lw_all := lw_g (lw_at lw_m1 141 rfl) rfl
theorem q198 : (Jvm.Cond.fieldLink "HutForShow" (21 : Nat) "HutForShow" "feed" "LHutForShow$Act;") ∈ lw_all := lw_g (lw_at lw_m1 145 rfl) rfl
theorem q201 : (Jvm.Cond.fieldLink "HutForShow" (26 : Nat) "HutForShow" "huts" "[LHutForShow$Place;") ∈ lw_all := lw_g (lw_at lw_m1 148 rfl) rfl
theorem q203 : (Jvm.Cond.fieldLink "HutForShow" (123 : Nat) "HutForShow" "hutMany" "I") ∈ lw_all := lw_g (lw_at lw_m1 150 rfl) rfl
theorem q205 : (Jvm.Cond.fieldLink "HutForShow" (32 : Nat) "HutForShow" "things" "[LHutForShow$Thing;") ∈ lw_all := lw_g (lw_at lw_m1 152 rfl) rfl
theorem q210 : (Jvm.Cond.fieldLink "HutForShow" (162 : Nat) "HutForShow" "thingMany" "I") ∈ lw_all := lw_g (lw_at lw_m1 157 rfl) rfl
theorem q211 : (Jvm.Cond.fieldLink "HutForShow" (36 : Nat) "HutForShow" "settings" "[I") ∈ lw_all := lw_g (lw_at lw_m1 158 rfl) rfl
theorem q213 : (Jvm.Cond.fieldLink "HutForShow" (45 : Nat) "HutForShow" "wood" "LHutForShow$Wood;") ∈ lw_all := lw_g (lw_at lw_m1 160 rfl) rfl
theorem q214 : (Jvm.Cond.fieldLink "HutForShow" (49 : Nat) "HutForShow" "model" "LHutForShow$Wood;") ∈ lw_all := lw_g (lw_at lw_m1 161 rfl) rfl
theorem q215 : (Jvm.Cond.fieldLink "HutForShow" (54 : Nat) "HutForShow" "habits" "[LHutForShow$Habit;") ∈ lw_all := lw_g (lw_at lw_m1 162 rfl) rfl
theorem q217 : (Jvm.Cond.fieldLink "HutForShow" (60 : Nat) "HutForShow" "tastes" "[LHutForShow$Taste;") ∈ lw_all := lw_g (lw_at lw_m1 164 rfl) rfl
theorem q219 : (Jvm.Cond.fieldLink "HutForShow" (64 : Nat) "HutForShow" "tape" "[B") ∈ lw_all := lw_g (lw_at lw_m1 166 rfl) rfl
theorem q221 : (Jvm.Cond.fieldLink "HutForShow" (211 : Nat) "HutForShow" "length" "I") ∈ lw_all := lw_g (lw_at lw_m1 168 rfl) rfl
theorem q222 : (Jvm.Cond.fieldLink "HutForShow" (71 : Nat) "HutForShow" "reader" "LHutForShow$Reader;") ∈ lw_all := lw_g (lw_at lw_m1 169 rfl) rfl
theorem q223 : (Jvm.Cond.fieldLink "HutForShow" (75 : Nat) "HutForShow" "hand" "[I") ∈ lw_all := lw_g (lw_at lw_m1 170 rfl) rfl
theorem q224 : (Jvm.Cond.fieldLink "HutForShow" (78 : Nat) "HutForShow" "order" "[I") ∈ lw_all := lw_g (lw_at lw_m1 171 rfl) rfl
theorem q225 : (Jvm.Cond.fieldLink "HutForShow" (81 : Nat) "HutForShow" "even" "[I") ∈ lw_all := lw_g (lw_at lw_m1 172 rfl) rfl
theorem q226 : (Jvm.Cond.fieldLink "HutForShow" (84 : Nat) "HutForShow" "low" "[I") ∈ lw_all := lw_g (lw_at lw_m1 173 rfl) rfl
theorem q227 : (Jvm.Cond.fieldLink "HutForShow" (87 : Nat) "HutForShow" "high" "[I") ∈ lw_all := lw_g (lw_at lw_m1 174 rfl) rfl
theorem q228 : (Jvm.Cond.fieldLink "HutForShow" (305 : Nat) "HutForShow" "guestMany" "I") ∈ lw_all := lw_g (lw_at lw_m1 175 rfl) rfl
theorem q229 : (Jvm.Cond.fieldLink "HutForShow" (90 : Nat) "HutForShow" "seenMark" "[I") ∈ lw_all := lw_g (lw_at lw_m1 176 rfl) rfl
theorem q230 : (Jvm.Cond.fieldLink "HutForShow" (93 : Nat) "HutForShow" "seenHut" "[I") ∈ lw_all := lw_g (lw_at lw_m1 177 rfl) rfl
theorem q231 : (Jvm.Cond.fieldLink "HutForShow" (96 : Nat) "HutForShow" "seenHour" "[I") ∈ lw_all := lw_g (lw_at lw_m1 178 rfl) rfl
theorem q232 : (Jvm.Cond.fieldLink "HutForShow" (330 : Nat) "HutForShow" "seenMany" "I") ∈ lw_all := lw_g (lw_at lw_m1 179 rfl) rfl
theorem q233 : (Jvm.Cond.fieldLink "HutForShow" (99 : Nat) "HutForShow" "metAt" "[I") ∈ lw_all := lw_g (lw_at lw_m1 180 rfl) rfl
theorem q234 : (Jvm.Cond.fieldLink "HutForShow" (104 : Nat) "HutForShow" "choices" "[LHutForShow$Pair;") ∈ lw_all := lw_g (lw_at lw_m1 181 rfl) rfl
theorem q235 : (Jvm.Cond.fieldLink "HutForShow" (108 : Nat) "HutForShow" "firsts" "[Z") ∈ lw_all := lw_g (lw_at lw_m1 182 rfl) rfl
theorem q236 : (Jvm.Cond.fieldLink "HutForShow" (353 : Nat) "HutForShow" "choiceMany" "I") ∈ lw_all := lw_g (lw_at lw_m1 183 rfl) rfl
theorem q237 : (Jvm.Cond.fieldLink "HutForShow" (112 : Nat) "HutForShow" "pairs" "[LHutForShow$Pair;") ∈ lw_all := lw_g (lw_at lw_m1 184 rfl) rfl
theorem q238 : (Jvm.Cond.fieldLink "HutForShow" (363 : Nat) "HutForShow" "pairMany" "I") ∈ lw_all := lw_g (lw_at lw_m1 185 rfl) rfl
theorem q239 : (Jvm.Cond.fieldLink "HutForShow" (115 : Nat) "HutForShow" "spots" "[LHutForShow$Place;") ∈ lw_all := lw_g (lw_at lw_m1 186 rfl) rfl
theorem q240 : (Jvm.Cond.fieldLink "HutForShow" (369 : Nat) "HutForShow" "spotMany" "I") ∈ lw_all := lw_g (lw_at lw_m1 187 rfl) rfl
theorem q241 : (Jvm.Cond.fieldLink "HutForShow" (120 : Nat) "HutForShow" "ways" "[[I") ∈ lw_all := lw_g (lw_at lw_m1 188 rfl) rfl
theorem q242 : (Jvm.Cond.laysFinal "HutForShow" "HutForShow" "guard" "LHutForShow$Act;") ∈ lw_all := lw_g (lw_at lw_m1 189 rfl) rfl
theorem q243 : (Jvm.Cond.soleField "HutForShow" "guard") ∈ lw_all := lw_g (lw_at lw_m1 190 rfl) rfl
theorem q244 : (Jvm.Cond.laysFinal "HutForShow" "HutForShow" "feed" "LHutForShow$Act;") ∈ lw_all := lw_g (lw_at lw_m1 191 rfl) rfl
theorem q245 : (Jvm.Cond.soleField "HutForShow" "feed") ∈ lw_all := lw_g (lw_at lw_m1 192 rfl) rfl
theorem q246 : (Jvm.Cond.laysFinal "HutForShow" "HutForShow" "huts" "[LHutForShow$Place;") ∈ lw_all := lw_g (lw_at lw_m1 193 rfl) rfl
theorem q247 : (Jvm.Cond.soleField "HutForShow" "huts") ∈ lw_all := lw_g (lw_at lw_m1 194 rfl) rfl
theorem q248 : (Jvm.Cond.lays "HutForShow" "HutForShow" "hutMany" "I") ∈ lw_all := lw_g (lw_at lw_m1 195 rfl) rfl
theorem q249 : (Jvm.Cond.soleField "HutForShow" "hutMany") ∈ lw_all := lw_g (lw_at lw_m1 196 rfl) rfl
theorem q250 : (Jvm.Cond.laysFinal "HutForShow" "HutForShow" "things" "[LHutForShow$Thing;") ∈ lw_all := lw_g (lw_at lw_m1 197 rfl) rfl
theorem q251 : (Jvm.Cond.soleField "HutForShow" "things") ∈ lw_all := lw_g (lw_at lw_m1 198 rfl) rfl
theorem q252 : (Jvm.Cond.lays "HutForShow" "HutForShow" "thingMany" "I") ∈ lw_all := lw_g (lw_at lw_m1 199 rfl) rfl
theorem q253 : (Jvm.Cond.soleField "HutForShow" "thingMany") ∈ lw_all := lw_g (lw_at lw_m1 200 rfl) rfl
theorem q254 : (Jvm.Cond.laysFinal "HutForShow" "HutForShow" "settings" "[I") ∈ lw_all := lw_g (lw_at lw_m1 201 rfl) rfl
theorem q255 : (Jvm.Cond.soleField "HutForShow" "settings") ∈ lw_all := lw_g (lw_at lw_m1 202 rfl) rfl
theorem q256 : (Jvm.Cond.laysFinal "HutForShow" "HutForShow" "wood" "LHutForShow$Wood;") ∈ lw_all := lw_g (lw_at lw_m1 203 rfl) rfl
theorem q257 : (Jvm.Cond.soleField "HutForShow" "wood") ∈ lw_all := lw_g (lw_at lw_m1 204 rfl) rfl
theorem q258 : (Jvm.Cond.laysFinal "HutForShow" "HutForShow" "model" "LHutForShow$Wood;") ∈ lw_all := lw_g (lw_at lw_m1 205 rfl) rfl
theorem q259 : (Jvm.Cond.soleField "HutForShow" "model") ∈ lw_all := lw_g (lw_at lw_m1 206 rfl) rfl
theorem q260 : (Jvm.Cond.laysFinal "HutForShow" "HutForShow" "habits" "[LHutForShow$Habit;") ∈ lw_all := lw_g (lw_at lw_m1 207 rfl) rfl
theorem q261 : (Jvm.Cond.soleField "HutForShow" "habits") ∈ lw_all := lw_g (lw_at lw_m1 208 rfl) rfl
theorem q262 : (Jvm.Cond.laysFinal "HutForShow" "HutForShow" "tastes" "[LHutForShow$Taste;") ∈ lw_all := lw_g (lw_at lw_m1 209 rfl) rfl
theorem q263 : (Jvm.Cond.soleField "HutForShow" "tastes") ∈ lw_all := lw_g (lw_at lw_m1 210 rfl) rfl
theorem q264 : (Jvm.Cond.laysFinal "HutForShow" "HutForShow" "tape" "[B") ∈ lw_all := lw_g (lw_at lw_m1 211 rfl) rfl
theorem q265 : (Jvm.Cond.soleField "HutForShow" "tape") ∈ lw_all := lw_g (lw_at lw_m1 212 rfl) rfl
theorem q266 : (Jvm.Cond.lays "HutForShow" "HutForShow" "length" "I") ∈ lw_all := lw_g (lw_at lw_m1 213 rfl) rfl
theorem q267 : (Jvm.Cond.soleField "HutForShow" "length") ∈ lw_all := lw_g (lw_at lw_m1 214 rfl) rfl
theorem q268 : (Jvm.Cond.laysFinal "HutForShow" "HutForShow" "reader" "LHutForShow$Reader;") ∈ lw_all := lw_g (lw_at lw_m1 215 rfl) rfl
theorem q269 : (Jvm.Cond.soleField "HutForShow" "reader") ∈ lw_all := lw_g (lw_at lw_m1 216 rfl) rfl
theorem q270 : (Jvm.Cond.laysFinal "HutForShow" "HutForShow" "hand" "[I") ∈ lw_all := lw_g (lw_at lw_m1 217 rfl) rfl
theorem q271 : (Jvm.Cond.soleField "HutForShow" "hand") ∈ lw_all := lw_g (lw_at lw_m1 218 rfl) rfl
theorem q272 : (Jvm.Cond.laysFinal "HutForShow" "HutForShow" "order" "[I") ∈ lw_all := lw_g (lw_at lw_m1 219 rfl) rfl
theorem q273 : (Jvm.Cond.soleField "HutForShow" "order") ∈ lw_all := lw_g (lw_at lw_m1 220 rfl) rfl
theorem q274 : (Jvm.Cond.laysFinal "HutForShow" "HutForShow" "even" "[I") ∈ lw_all := lw_g (lw_at lw_m1 221 rfl) rfl
theorem q275 : (Jvm.Cond.soleField "HutForShow" "even") ∈ lw_all := lw_g (lw_at lw_m1 222 rfl) rfl
theorem q276 : (Jvm.Cond.laysFinal "HutForShow" "HutForShow" "low" "[I") ∈ lw_all := lw_g (lw_at lw_m1 223 rfl) rfl
theorem q277 : (Jvm.Cond.soleField "HutForShow" "low") ∈ lw_all := lw_g (lw_at lw_m1 224 rfl) rfl
theorem q278 : (Jvm.Cond.laysFinal "HutForShow" "HutForShow" "high" "[I") ∈ lw_all := lw_g (lw_at lw_m1 225 rfl) rfl
theorem q279 : (Jvm.Cond.soleField "HutForShow" "high") ∈ lw_all := lw_g (lw_at lw_m1 226 rfl) rfl
theorem q280 : (Jvm.Cond.lays "HutForShow" "HutForShow" "guestMany" "I") ∈ lw_all := lw_g (lw_at lw_m1 227 rfl) rfl
theorem q281 : (Jvm.Cond.soleField "HutForShow" "guestMany") ∈ lw_all := lw_g (lw_at lw_m1 228 rfl) rfl
theorem q282 : (Jvm.Cond.laysFinal "HutForShow" "HutForShow" "seenMark" "[I") ∈ lw_all := lw_g (lw_at lw_m1 229 rfl) rfl
theorem q283 : (Jvm.Cond.soleField "HutForShow" "seenMark") ∈ lw_all := lw_g (lw_at lw_m1 230 rfl) rfl
theorem q284 : (Jvm.Cond.laysFinal "HutForShow" "HutForShow" "seenHut" "[I") ∈ lw_all := lw_g (lw_at lw_m1 231 rfl) rfl
theorem q285 : (Jvm.Cond.soleField "HutForShow" "seenHut") ∈ lw_all := lw_g (lw_at lw_m1 232 rfl) rfl
theorem q286 : (Jvm.Cond.laysFinal "HutForShow" "HutForShow" "seenHour" "[I") ∈ lw_all := lw_g (lw_at lw_m1 233 rfl) rfl
theorem q287 : (Jvm.Cond.soleField "HutForShow" "seenHour") ∈ lw_all := lw_g (lw_at lw_m1 234 rfl) rfl
theorem q288 : (Jvm.Cond.lays "HutForShow" "HutForShow" "seenMany" "I") ∈ lw_all := lw_g (lw_at lw_m1 235 rfl) rfl
theorem q289 : (Jvm.Cond.soleField "HutForShow" "seenMany") ∈ lw_all := lw_g (lw_at lw_m1 236 rfl) rfl
theorem q290 : (Jvm.Cond.laysFinal "HutForShow" "HutForShow" "metAt" "[I") ∈ lw_all := lw_g (lw_at lw_m1 237 rfl) rfl
theorem q291 : (Jvm.Cond.soleField "HutForShow" "metAt") ∈ lw_all := lw_g (lw_at lw_m1 238 rfl) rfl
theorem q292 : (Jvm.Cond.laysFinal "HutForShow" "HutForShow" "choices" "[LHutForShow$Pair;") ∈ lw_all := lw_g (lw_at lw_m1 239 rfl) rfl
theorem q293 : (Jvm.Cond.soleField "HutForShow" "choices") ∈ lw_all := lw_g (lw_at lw_m2 0 rfl) rfl
theorem q294 : (Jvm.Cond.laysFinal "HutForShow" "HutForShow" "firsts" "[Z") ∈ lw_all := lw_g (lw_at lw_m2 1 rfl) rfl
theorem q295 : (Jvm.Cond.soleField "HutForShow" "firsts") ∈ lw_all := lw_g (lw_at lw_m2 2 rfl) rfl
theorem q296 : (Jvm.Cond.lays "HutForShow" "HutForShow" "choiceMany" "I") ∈ lw_all := lw_g (lw_at lw_m2 3 rfl) rfl
theorem q297 : (Jvm.Cond.soleField "HutForShow" "choiceMany") ∈ lw_all := lw_g (lw_at lw_m2 4 rfl) rfl
theorem q298 : (Jvm.Cond.laysFinal "HutForShow" "HutForShow" "pairs" "[LHutForShow$Pair;") ∈ lw_all := lw_g (lw_at lw_m2 5 rfl) rfl
theorem q299 : (Jvm.Cond.soleField "HutForShow" "pairs") ∈ lw_all := lw_g (lw_at lw_m2 6 rfl) rfl
theorem q300 : (Jvm.Cond.lays "HutForShow" "HutForShow" "pairMany" "I") ∈ lw_all := lw_g (lw_at lw_m2 7 rfl) rfl
theorem q301 : (Jvm.Cond.soleField "HutForShow" "pairMany") ∈ lw_all := lw_g (lw_at lw_m2 8 rfl) rfl
theorem q302 : (Jvm.Cond.laysFinal "HutForShow" "HutForShow" "spots" "[LHutForShow$Place;") ∈ lw_all := lw_g (lw_at lw_m2 9 rfl) rfl
theorem q303 : (Jvm.Cond.soleField "HutForShow" "spots") ∈ lw_all := lw_g (lw_at lw_m2 10 rfl) rfl
theorem q304 : (Jvm.Cond.lays "HutForShow" "HutForShow" "spotMany" "I") ∈ lw_all := lw_g (lw_at lw_m2 11 rfl) rfl
theorem q305 : (Jvm.Cond.soleField "HutForShow" "spotMany") ∈ lw_all := lw_g (lw_at lw_m2 12 rfl) rfl
theorem q306 : (Jvm.Cond.laysFinal "HutForShow" "HutForShow" "ways" "[[I") ∈ lw_all := lw_g (lw_at lw_m2 13 rfl) rfl
theorem q307 : (Jvm.Cond.soleField "HutForShow" "ways") ∈ lw_all := lw_g (lw_at lw_m2 14 rfl) rfl
theorem q308 : (Jvm.Cond.superclass "HutForShow" "java/lang/Object") ∈ lw_all := lw_g (lw_at lw_m2 15 rfl) rfl
theorem q311 : (Jvm.Cond.instanceMethod ({ cls := "HutForShow", name := "hut", desc := "(III)I" } : Jvm.MethodName)) ∈ lw_all := lw_g (lw_at lw_m2 18 rfl) rfl
theorem q312 : (Jvm.Cond.selects "HutForShow" ({ cls := "HutForShow", name := "hut", desc := "(III)I" } : Jvm.MethodName) ({ cls := "HutForShow", name := "hut", desc := "(III)I" } : Jvm.MethodName)) ∈ lw_all := lw_g (lw_at lw_m2 19 rfl) rfl
theorem q313 : (Jvm.Cond.code ({ cls := "HutForShow", name := "hut", desc := "(III)I" } : Jvm.MethodName) prog_1_method_6_code (4 : Nat) (Option.some Jvm.ClassFile.FieldType.int)) ∈ lw_all := lw_g (lw_at lw_m2 20 rfl) rfl
theorem q314 : (Jvm.Cond.methodLink "HutForShow" (133 : Nat) ({ cls := "HutForShow", name := "isSpan", desc := "(I)Z" } : Jvm.MethodName)) ∈ lw_all := lw_g (lw_at lw_m2 21 rfl) rfl
theorem q315 : (Jvm.Cond.static ({ cls := "HutForShow", name := "isSpan", desc := "(I)Z" } : Jvm.MethodName)) ∈ lw_all := lw_g (lw_at lw_m2 22 rfl) rfl
theorem q316 : (Jvm.Cond.code ({ cls := "HutForShow", name := "isSpan", desc := "(I)Z" } : Jvm.MethodName) prog_1_method_5_code (1 : Nat) (Option.some Jvm.ClassFile.FieldType.boolean)) ∈ lw_all := lw_g (lw_at lw_m2 23 rfl) rfl
theorem q317 : (Jvm.Cond.constantLong "HutForShow" (131 : Nat) (30 : Int64)) ∈ lw_all := lw_g (lw_at lw_m2 24 rfl) rfl
theorem q318 : (Jvm.Cond.methodLink "HutForShow" (127 : Nat) ({ cls := "HutForShow", name := "isIn", desc := "(JJJ)Z" } : Jvm.MethodName)) ∈ lw_all := lw_g (lw_at lw_m2 25 rfl) rfl
theorem q319 : (Jvm.Cond.static ({ cls := "HutForShow", name := "isIn", desc := "(JJJ)Z" } : Jvm.MethodName)) ∈ lw_all := lw_g (lw_at lw_m2 26 rfl) rfl
theorem q320 : (Jvm.Cond.code ({ cls := "HutForShow", name := "isIn", desc := "(JJJ)Z" } : Jvm.MethodName) prog_1_method_1_code (6 : Nat) (Option.some Jvm.ClassFile.FieldType.boolean)) ∈ lw_all := lw_g (lw_at lw_m2 27 rfl) rfl
theorem q321 : (Jvm.Cond.constantLong "HutForShow" (137 : Nat) (99 : Int64)) ∈ lw_all := lw_g (lw_at lw_m2 28 rfl) rfl
theorem q323 : (Jvm.Cond.methodLink "HutForShow" (139 : Nat) ({ cls := "HutForShow$Place", name := "<init>", desc := "(II)V" } : Jvm.MethodName)) ∈ lw_all := lw_g (lw_at lw_m2 30 rfl) rfl
theorem q335 : (Jvm.Cond.instanceMethod ({ cls := "HutForShow", name := "far", desc := "(II)I" } : Jvm.MethodName)) ∈ lw_all := lw_g (lw_at lw_m2 42 rfl) rfl
theorem q336 : (Jvm.Cond.selects "HutForShow" ({ cls := "HutForShow", name := "far", desc := "(II)I" } : Jvm.MethodName) ({ cls := "HutForShow", name := "far", desc := "(II)I" } : Jvm.MethodName)) ∈ lw_all := lw_g (lw_at lw_m2 43 rfl) rfl
theorem q337 : (Jvm.Cond.code ({ cls := "HutForShow", name := "far", desc := "(II)I" } : Jvm.MethodName) prog_1_method_7_code (3 : Nat) (Option.some Jvm.ClassFile.FieldType.int)) ∈ lw_all := lw_g (lw_at lw_m2 44 rfl) rfl
theorem q338 : (Jvm.Cond.methodLink "HutForShow" (145 : Nat) ({ cls := "HutForShow", name := "isHut", desc := "(I)Z" } : Jvm.MethodName)) ∈ lw_all := lw_g (lw_at lw_m2 45 rfl) rfl
theorem q339 : (Jvm.Cond.privateMethod ({ cls := "HutForShow", name := "isHut", desc := "(I)Z" } : Jvm.MethodName)) ∈ lw_tbl := lw_at lw_m2 46 rfl
theorem q340 : (Jvm.Cond.instanceMethod ({ cls := "HutForShow", name := "isHut", desc := "(I)Z" } : Jvm.MethodName)) ∈ lw_all := lw_g (lw_at lw_m2 47 rfl) rfl
theorem q341 : (Jvm.Cond.code ({ cls := "HutForShow", name := "isHut", desc := "(I)Z" } : Jvm.MethodName) prog_1_method_4_code (2 : Nat) (Option.some Jvm.ClassFile.FieldType.boolean)) ∈ lw_all := lw_g (lw_at lw_m2 48 rfl) rfl
theorem q342 : (Jvm.Cond.methodLink "HutForShow" (148 : Nat) ({ cls := "HutForShow$Place", name := "far", desc := "(LHutForShow$Place;)I" } : Jvm.MethodName)) ∈ lw_all := lw_g (lw_at lw_m2 49 rfl) rfl
theorem q350 : (Jvm.Cond.instanceMethod ({ cls := "HutForShow", name := "thing", desc := "(IIII)I" } : Jvm.MethodName)) ∈ lw_all := lw_g (lw_at lw_m2 57 rfl) rfl
theorem q351 : (Jvm.Cond.selects "HutForShow" ({ cls := "HutForShow", name := "thing", desc := "(IIII)I" } : Jvm.MethodName) ({ cls := "HutForShow", name := "thing", desc := "(IIII)I" } : Jvm.MethodName)) ∈ lw_all := lw_g (lw_at lw_m2 58 rfl) rfl
theorem q352 : (Jvm.Cond.code ({ cls := "HutForShow", name := "thing", desc := "(IIII)I" } : Jvm.MethodName) prog_1_method_8_code (5 : Nat) (Option.some Jvm.ClassFile.FieldType.int)) ∈ lw_all := lw_g (lw_at lw_m2 59 rfl) rfl
theorem q353 : (Jvm.Cond.constantLong "HutForShow" (152 : Nat) (3 : Int64)) ∈ lw_all := lw_g (lw_at lw_m2 60 rfl) rfl
theorem q354 : (Jvm.Cond.constantLong "HutForShow" (154 : Nat) (9 : Int64)) ∈ lw_all := lw_g (lw_at lw_m2 61 rfl) rfl
theorem q355 : (Jvm.Cond.constantLong "HutForShow" (156 : Nat) (15 : Int64)) ∈ lw_all := lw_g (lw_at lw_m2 62 rfl) rfl
theorem q356 : (Jvm.Cond.methodLink "HutForShow" (158 : Nat) ({ cls := "HutForShow$Wood", name := "many", desc := "(I)I" } : Jvm.MethodName)) ∈ lw_all := lw_g (lw_at lw_m2 63 rfl) rfl
theorem q361 : (Jvm.Cond.methodLink "HutForShow" (165 : Nat) ({ cls := "HutForShow$Thing", name := "<init>", desc := "(III)V" } : Jvm.MethodName)) ∈ lw_all := lw_g (lw_at lw_m2 68 rfl) rfl
theorem q368 : (Jvm.Cond.fieldLinkNest "HutForShow" (174 : Nat) "HutForShow$Thing" "colour" "I" "HutForShow") ∈ lw_tbl := lw_at lw_m2 75 rfl
theorem q371 : (Jvm.Cond.fieldLinkNest "HutForShow" (177 : Nat) "HutForShow$Thing" "size" "I" "HutForShow") ∈ lw_tbl := lw_at lw_m2 78 rfl
theorem q373 : (Jvm.Cond.fieldLinkNest "HutForShow" (180 : Nat) "HutForShow$Thing" "mark" "I" "HutForShow") ∈ lw_tbl := lw_at lw_m2 80 rfl
theorem q382 : (Jvm.Cond.instanceMethod ({ cls := "HutForShow", name := "at", desc := "(II)I" } : Jvm.MethodName)) ∈ lw_all := lw_g (lw_at lw_m2 89 rfl) rfl
theorem q383 : (Jvm.Cond.selects "HutForShow" ({ cls := "HutForShow", name := "at", desc := "(II)I" } : Jvm.MethodName) ({ cls := "HutForShow", name := "at", desc := "(II)I" } : Jvm.MethodName)) ∈ lw_all := lw_g (lw_at lw_m2 90 rfl) rfl
theorem q384 : (Jvm.Cond.code ({ cls := "HutForShow", name := "at", desc := "(II)I" } : Jvm.MethodName) prog_1_method_10_code (3 : Nat) (Option.some Jvm.ClassFile.FieldType.int)) ∈ lw_all := lw_g (lw_at lw_m2 91 rfl) rfl
theorem q385 : (Jvm.Cond.methodLink "HutForShow" (171 : Nat) ({ cls := "HutForShow", name := "isThing", desc := "(I)Z" } : Jvm.MethodName)) ∈ lw_all := lw_g (lw_at lw_m2 92 rfl) rfl
theorem q386 : (Jvm.Cond.privateMethod ({ cls := "HutForShow", name := "isThing", desc := "(I)Z" } : Jvm.MethodName)) ∈ lw_tbl := lw_at lw_m2 93 rfl
theorem q387 : (Jvm.Cond.instanceMethod ({ cls := "HutForShow", name := "isThing", desc := "(I)Z" } : Jvm.MethodName)) ∈ lw_all := lw_g (lw_at lw_m2 94 rfl) rfl
theorem q388 : (Jvm.Cond.code ({ cls := "HutForShow", name := "isThing", desc := "(I)Z" } : Jvm.MethodName) prog_1_method_9_code (2 : Nat) (Option.some Jvm.ClassFile.FieldType.boolean)) ∈ lw_all := lw_g (lw_at lw_m2 95 rfl) rfl
theorem q390 : (Jvm.Cond.instanceMethod ({ cls := "HutForShow", name := "of", desc := "(II)I" } : Jvm.MethodName)) ∈ lw_all := lw_g (lw_at lw_m2 97 rfl) rfl
theorem q391 : (Jvm.Cond.selects "HutForShow" ({ cls := "HutForShow", name := "of", desc := "(II)I" } : Jvm.MethodName) ({ cls := "HutForShow", name := "of", desc := "(II)I" } : Jvm.MethodName)) ∈ lw_all := lw_g (lw_at lw_m2 98 rfl) rfl
theorem q392 : (Jvm.Cond.code ({ cls := "HutForShow", name := "of", desc := "(II)I" } : Jvm.MethodName) prog_1_method_11_code (3 : Nat) (Option.some Jvm.ClassFile.FieldType.int)) ∈ lw_all := lw_g (lw_at lw_m2 99 rfl) rfl
theorem q393 : (Jvm.Cond.methodLink "HutForShow" (183 : Nat) ({ cls := "HutForShow$Wood", name := "blue", desc := "(I)I" } : Jvm.MethodName)) ∈ lw_all := lw_g (lw_at lw_m2 100 rfl) rfl
theorem q398 : (Jvm.Cond.instanceMethod ({ cls := "HutForShow", name := "set", desc := "(II)I" } : Jvm.MethodName)) ∈ lw_all := lw_g (lw_at lw_m2 105 rfl) rfl
theorem q399 : (Jvm.Cond.selects "HutForShow" ({ cls := "HutForShow", name := "set", desc := "(II)I" } : Jvm.MethodName) ({ cls := "HutForShow", name := "set", desc := "(II)I" } : Jvm.MethodName)) ∈ lw_all := lw_g (lw_at lw_m2 106 rfl) rfl
theorem q400 : (Jvm.Cond.code ({ cls := "HutForShow", name := "set", desc := "(II)I" } : Jvm.MethodName) prog_1_method_12_code (4 : Nat) (Option.some Jvm.ClassFile.FieldType.int)) ∈ lw_all := lw_g (lw_at lw_m2 107 rfl) rfl
theorem q401 : (Jvm.Cond.constantLong "HutForShow" (195 : Nat) (4 : Int64)) ∈ lw_all := lw_g (lw_at lw_m2 108 rfl) rfl
theorem q402 : (Jvm.Cond.constantLong "HutForShow" (197 : Nat) (60 : Int64)) ∈ lw_all := lw_g (lw_at lw_m2 109 rfl) rfl
theorem q404 : (Jvm.Cond.instanceMethod ({ cls := "HutForShow", name := "hours", desc := "(I)I" } : Jvm.MethodName)) ∈ lw_all := lw_g (lw_at lw_m2 111 rfl) rfl
theorem q405 : (Jvm.Cond.selects "HutForShow" ({ cls := "HutForShow", name := "hours", desc := "(I)I" } : Jvm.MethodName) ({ cls := "HutForShow", name := "hours", desc := "(I)I" } : Jvm.MethodName)) ∈ lw_all := lw_g (lw_at lw_m2 112 rfl) rfl
theorem q406 : (Jvm.Cond.code ({ cls := "HutForShow", name := "hours", desc := "(I)I" } : Jvm.MethodName) prog_1_method_14_code (3 : Nat) (Option.some Jvm.ClassFile.FieldType.int)) ∈ lw_all := lw_g (lw_at lw_m2 113 rfl) rfl
theorem q407 : (Jvm.Cond.methodLink "HutForShow" (199 : Nat) ({ cls := "HutForShow", name := "areHours", desc := "(I)Z" } : Jvm.MethodName)) ∈ lw_all := lw_g (lw_at lw_m2 114 rfl) rfl
theorem q408 : (Jvm.Cond.static ({ cls := "HutForShow", name := "areHours", desc := "(I)Z" } : Jvm.MethodName)) ∈ lw_all := lw_g (lw_at lw_m2 115 rfl) rfl
theorem q409 : (Jvm.Cond.code ({ cls := "HutForShow", name := "areHours", desc := "(I)Z" } : Jvm.MethodName) prog_1_method_13_code (1 : Nat) (Option.some Jvm.ClassFile.FieldType.boolean)) ∈ lw_all := lw_g (lw_at lw_m2 116 rfl) rfl
theorem q410 : (Jvm.Cond.methodLink "HutForShow" (205 : Nat) ({ cls := "HutForShow$Wood", name := "step", desc := "(Z)V" } : Jvm.MethodName)) ∈ lw_all := lw_g (lw_at lw_m2 117 rfl) rfl
theorem q504 : (Jvm.Cond.instanceMethod ({ cls := "HutForShow", name := "write", desc := "(JI)I" } : Jvm.MethodName)) ∈ lw_all := lw_g (lw_at lw_m2 211 rfl) rfl
theorem q505 : (Jvm.Cond.selects "HutForShow" ({ cls := "HutForShow", name := "write", desc := "(JI)I" } : Jvm.MethodName) ({ cls := "HutForShow", name := "write", desc := "(JI)I" } : Jvm.MethodName)) ∈ lw_all := lw_g (lw_at lw_m2 212 rfl) rfl
theorem q506 : (Jvm.Cond.code ({ cls := "HutForShow", name := "write", desc := "(JI)I" } : Jvm.MethodName) prog_1_method_15_code (5 : Nat) (Option.some Jvm.ClassFile.FieldType.int)) ∈ lw_all := lw_g (lw_at lw_m2 213 rfl) rfl
theorem q507 : (Jvm.Cond.constantLong "HutForShow" (209 : Nat) (8 : Int64)) ∈ lw_all := lw_g (lw_at lw_m2 214 rfl) rfl
theorem q509 : (Jvm.Cond.instanceMethod ({ cls := "HutForShow", name := "erase", desc := "()I" } : Jvm.MethodName)) ∈ lw_all := lw_g (lw_at lw_m2 216 rfl) rfl
theorem q510 : (Jvm.Cond.selects "HutForShow" ({ cls := "HutForShow", name := "erase", desc := "()I" } : Jvm.MethodName) ({ cls := "HutForShow", name := "erase", desc := "()I" } : Jvm.MethodName)) ∈ lw_all := lw_g (lw_at lw_m2 217 rfl) rfl
theorem q511 : (Jvm.Cond.code ({ cls := "HutForShow", name := "erase", desc := "()I" } : Jvm.MethodName) prog_1_method_16_code (2 : Nat) (Option.some Jvm.ClassFile.FieldType.int)) ∈ lw_all := lw_g (lw_at lw_m2 218 rfl) rfl
theorem q513 : (Jvm.Cond.instanceMethod ({ cls := "HutForShow", name := "fault", desc := "(I)I" } : Jvm.MethodName)) ∈ lw_all := lw_g (lw_at lw_m2 220 rfl) rfl
theorem q514 : (Jvm.Cond.selects "HutForShow" ({ cls := "HutForShow", name := "fault", desc := "(I)I" } : Jvm.MethodName) ({ cls := "HutForShow", name := "fault", desc := "(I)I" } : Jvm.MethodName)) ∈ lw_all := lw_g (lw_at lw_m2 221 rfl) rfl
theorem q515 : (Jvm.Cond.code ({ cls := "HutForShow", name := "fault", desc := "(I)I" } : Jvm.MethodName) prog_1_method_18_code (2 : Nat) (Option.some Jvm.ClassFile.FieldType.int)) ∈ lw_all := lw_g (lw_at lw_m2 222 rfl) rfl
theorem q517 : (Jvm.Cond.methodLinkNest "HutForShow" (223 : Nat) ({ cls := "HutForShow$Habit", name := "<init>", desc := "(LHutForShow;)V" } : Jvm.MethodName) "HutForShow") ∈ lw_tbl := lw_at lw_m2 224 rfl
theorem q535 : (Jvm.Cond.fieldLink "HutForShow" (229 : Nat) "HutForShow$Habit" "many" "I") ∈ lw_all := lw_g (lw_at lw_m3 2 rfl) rfl
theorem q536 : (Jvm.Cond.fieldLink "HutForShow" (234 : Nat) "HutForShow$Taste" "many" "I") ∈ lw_all := lw_g (lw_at lw_m3 3 rfl) rfl
theorem q552 : (Jvm.Cond.methodLink "HutForShow" (224 : Nat) ({ cls := "HutForShow", name := "faultOf", desc := "(LHutForShow$Told;)I" } : Jvm.MethodName)) ∈ lw_all := lw_g (lw_at lw_m3 19 rfl) rfl
theorem q553 : (Jvm.Cond.privateMethod ({ cls := "HutForShow", name := "faultOf", desc := "(LHutForShow$Told;)I" } : Jvm.MethodName)) ∈ lw_tbl := lw_at lw_m3 20 rfl
theorem q554 : (Jvm.Cond.instanceMethod ({ cls := "HutForShow", name := "faultOf", desc := "(LHutForShow$Told;)I" } : Jvm.MethodName)) ∈ lw_all := lw_g (lw_at lw_m3 21 rfl) rfl
theorem q555 : (Jvm.Cond.codeWith ({ cls := "HutForShow", name := "faultOf", desc := "(LHutForShow$Told;)I" } : Jvm.MethodName) prog_1_method_17_code (3 : Nat) (Option.some Jvm.ClassFile.FieldType.int) [((0 : Nat), (9 : Nat), (10 : Nat), (218 : Nat))]) ∈ lw_all := lw_g (lw_at lw_m3 22 rfl) rfl
theorem q556 : (Jvm.Cond.classLink "HutForShow" (218 : Nat) "HutForShow$Fault") ∈ lw_all := lw_g (lw_at lw_m3 23 rfl) rfl
theorem q557 : (Jvm.Cond.methodLink "HutForShow" (214 : Nat) ({ cls := "HutForShow$Reader", name := "read", desc := "(LHutForShow$Told;)V" } : Jvm.MethodName)) ∈ lw_all := lw_g (lw_at lw_m3 24 rfl) rfl
theorem q711 : (Jvm.Cond.fieldLinkNest "HutForShow" (220 : Nat) "HutForShow$Fault" "place" "I" "HutForShow") ∈ lw_tbl := lw_at lw_m3 178 rfl
theorem q738 : (Jvm.Cond.fieldLinkNest "HutForShow" (241 : Nat) "HutForShow$Raid" "goal" "I" "HutForShow") ∈ lw_tbl := lw_at lw_m3 205 rfl
theorem q749 : (Jvm.Cond.laysStatic "HutForShow" "READS" "[Ljava/lang/String;") ∈ lw_tbl := lw_at lw_m3 216 rfl
theorem q790 : (Jvm.Cond.methodLinkNest "HutForShow" (228 : Nat) ({ cls := "HutForShow$Taste", name := "<init>", desc := "(LHutForShow;)V" } : Jvm.MethodName) "HutForShow") ∈ lw_tbl := lw_at lw_m4 17 rfl
theorem q816 : (Jvm.Cond.instanceMethod ({ cls := "HutForShow", name := "habit", desc := "(I)I" } : Jvm.MethodName)) ∈ lw_all := lw_g (lw_at lw_m4 43 rfl) rfl
theorem q817 : (Jvm.Cond.selects "HutForShow" ({ cls := "HutForShow", name := "habit", desc := "(I)I" } : Jvm.MethodName) ({ cls := "HutForShow", name := "habit", desc := "(I)I" } : Jvm.MethodName)) ∈ lw_all := lw_g (lw_at lw_m4 44 rfl) rfl
theorem q818 : (Jvm.Cond.code ({ cls := "HutForShow", name := "habit", desc := "(I)I" } : Jvm.MethodName) prog_1_method_19_code (3 : Nat) (Option.some Jvm.ClassFile.FieldType.int)) ∈ lw_all := lw_g (lw_at lw_m4 45 rfl) rfl
theorem q820 : (Jvm.Cond.instanceMethod ({ cls := "HutForShow", name := "taste", desc := "(I)I" } : Jvm.MethodName)) ∈ lw_all := lw_g (lw_at lw_m4 47 rfl) rfl
theorem q821 : (Jvm.Cond.selects "HutForShow" ({ cls := "HutForShow", name := "taste", desc := "(I)I" } : Jvm.MethodName) ({ cls := "HutForShow", name := "taste", desc := "(I)I" } : Jvm.MethodName)) ∈ lw_all := lw_g (lw_at lw_m4 48 rfl) rfl
theorem q822 : (Jvm.Cond.code ({ cls := "HutForShow", name := "taste", desc := "(I)I" } : Jvm.MethodName) prog_1_method_21_code (3 : Nat) (Option.some Jvm.ClassFile.FieldType.int)) ∈ lw_all := lw_g (lw_at lw_m4 49 rfl) rfl
theorem q823 : (Jvm.Cond.methodLink "HutForShow" (231 : Nat) ({ cls := "HutForShow", name := "isVisitor", desc := "(I)Z" } : Jvm.MethodName)) ∈ lw_all := lw_g (lw_at lw_m4 50 rfl) rfl
theorem q824 : (Jvm.Cond.static ({ cls := "HutForShow", name := "isVisitor", desc := "(I)Z" } : Jvm.MethodName)) ∈ lw_all := lw_g (lw_at lw_m4 51 rfl) rfl
theorem q825 : (Jvm.Cond.code ({ cls := "HutForShow", name := "isVisitor", desc := "(I)Z" } : Jvm.MethodName) prog_1_method_20_code (1 : Nat) (Option.some Jvm.ClassFile.FieldType.boolean)) ∈ lw_all := lw_g (lw_at lw_m4 52 rfl) rfl
theorem q827 : (Jvm.Cond.instanceMethod ({ cls := "HutForShow", name := "act", desc := "(I)I" } : Jvm.MethodName)) ∈ lw_all := lw_g (lw_at lw_m4 54 rfl) rfl
theorem q828 : (Jvm.Cond.selects "HutForShow" ({ cls := "HutForShow", name := "act", desc := "(I)I" } : Jvm.MethodName) ({ cls := "HutForShow", name := "act", desc := "(I)I" } : Jvm.MethodName)) ∈ lw_all := lw_g (lw_at lw_m4 55 rfl) rfl
theorem q829 : (Jvm.Cond.code ({ cls := "HutForShow", name := "act", desc := "(I)I" } : Jvm.MethodName) prog_1_method_22_code (3 : Nat) (Option.some Jvm.ClassFile.FieldType.int)) ∈ lw_all := lw_g (lw_at lw_m4 56 rfl) rfl
theorem q830 : (Jvm.Cond.methodLink "HutForShow" (235 : Nat) ({ cls := "HutForShow$Wood", name := "actOf", desc := "(I)LHutForShow$Act;" } : Jvm.MethodName)) ∈ lw_all := lw_g (lw_at lw_m4 57 rfl) rfl
theorem q831 : (Jvm.Cond.classLink "HutForShow" (239 : Nat) "HutForShow$Raid") ∈ lw_all := lw_g (lw_at lw_m4 58 rfl) rfl
theorem q832 : (Jvm.Cond.methodLink "HutForShow" (244 : Nat) ({ cls := "HutForShow$Act", name := "code", desc := "()I" } : Jvm.MethodName)) ∈ lw_all := lw_g (lw_at lw_m4 59 rfl) rfl
theorem q834 : (Jvm.Cond.instanceMethod ({ cls := "HutForShow", name := "worth", desc := "(II)I" } : Jvm.MethodName)) ∈ lw_all := lw_g (lw_at lw_m4 61 rfl) rfl
theorem q835 : (Jvm.Cond.selects "HutForShow" ({ cls := "HutForShow", name := "worth", desc := "(II)I" } : Jvm.MethodName) ({ cls := "HutForShow", name := "worth", desc := "(II)I" } : Jvm.MethodName)) ∈ lw_all := lw_g (lw_at lw_m4 62 rfl) rfl
theorem q836 : (Jvm.Cond.code ({ cls := "HutForShow", name := "worth", desc := "(II)I" } : Jvm.MethodName) prog_1_method_24_code (3 : Nat) (Option.some Jvm.ClassFile.FieldType.int)) ∈ lw_all := lw_g (lw_at lw_m4 63 rfl) rfl
theorem q837 : (Jvm.Cond.methodLink "HutForShow" (254 : Nat) ({ cls := "HutForShow", name := "worthOf", desc := "(ILHutForShow$Wood;I)I" } : Jvm.MethodName)) ∈ lw_all := lw_g (lw_at lw_m4 64 rfl) rfl
theorem q838 : (Jvm.Cond.privateMethod ({ cls := "HutForShow", name := "worthOf", desc := "(ILHutForShow$Wood;I)I" } : Jvm.MethodName)) ∈ lw_tbl := lw_at lw_m4 65 rfl
theorem q839 : (Jvm.Cond.instanceMethod ({ cls := "HutForShow", name := "worthOf", desc := "(ILHutForShow$Wood;I)I" } : Jvm.MethodName)) ∈ lw_all := lw_g (lw_at lw_m4 66 rfl) rfl
theorem q840 : (Jvm.Cond.code ({ cls := "HutForShow", name := "worthOf", desc := "(ILHutForShow$Wood;I)I" } : Jvm.MethodName) prog_1_method_23_code (4 : Nat) (Option.some Jvm.ClassFile.FieldType.int)) ∈ lw_all := lw_g (lw_at lw_m4 67 rfl) rfl
theorem q841 : (Jvm.Cond.methodLink "HutForShow" (250 : Nat) ({ cls := "HutForShow$Taste", name := "worth", desc := "(LHutForShow$Wood;I)I" } : Jvm.MethodName)) ∈ lw_all := lw_g (lw_at lw_m4 68 rfl) rfl
theorem q846 : (Jvm.Cond.instanceMethod ({ cls := "HutForShow", name := "choose", desc := "(I)I" } : Jvm.MethodName)) ∈ lw_all := lw_g (lw_at lw_m4 73 rfl) rfl
theorem q847 : (Jvm.Cond.selects "HutForShow" ({ cls := "HutForShow", name := "choose", desc := "(I)I" } : Jvm.MethodName) ({ cls := "HutForShow", name := "choose", desc := "(I)I" } : Jvm.MethodName)) ∈ lw_all := lw_g (lw_at lw_m4 74 rfl) rfl
theorem q848 : (Jvm.Cond.code ({ cls := "HutForShow", name := "choose", desc := "(I)I" } : Jvm.MethodName) prog_1_method_25_code (5 : Nat) (Option.some Jvm.ClassFile.FieldType.int)) ∈ lw_all := lw_g (lw_at lw_m4 75 rfl) rfl
theorem q850 : (Jvm.Cond.instanceMethod ({ cls := "HutForShow", name := "would", desc := "(III)I" } : Jvm.MethodName)) ∈ lw_all := lw_g (lw_at lw_m4 77 rfl) rfl
theorem q851 : (Jvm.Cond.selects "HutForShow" ({ cls := "HutForShow", name := "would", desc := "(III)I" } : Jvm.MethodName) ({ cls := "HutForShow", name := "would", desc := "(III)I" } : Jvm.MethodName)) ∈ lw_all := lw_g (lw_at lw_m4 78 rfl) rfl
theorem q852 : (Jvm.Cond.code ({ cls := "HutForShow", name := "would", desc := "(III)I" } : Jvm.MethodName) prog_1_method_27_code (4 : Nat) (Option.some Jvm.ClassFile.FieldType.int)) ∈ lw_all := lw_g (lw_at lw_m4 79 rfl) rfl
theorem q853 : (Jvm.Cond.methodLink "HutForShow" (262 : Nat) ({ cls := "HutForShow", name := "live", desc := "(IZ)V" } : Jvm.MethodName)) ∈ lw_all := lw_g (lw_at lw_m4 80 rfl) rfl
theorem q854 : (Jvm.Cond.privateMethod ({ cls := "HutForShow", name := "live", desc := "(IZ)V" } : Jvm.MethodName)) ∈ lw_tbl := lw_at lw_m4 81 rfl
theorem q855 : (Jvm.Cond.instanceMethod ({ cls := "HutForShow", name := "live", desc := "(IZ)V" } : Jvm.MethodName)) ∈ lw_all := lw_g (lw_at lw_m4 82 rfl) rfl
theorem q856 : (Jvm.Cond.code ({ cls := "HutForShow", name := "live", desc := "(IZ)V" } : Jvm.MethodName) prog_1_method_26_code (4 : Nat) (Option.none : Option Jvm.ClassFile.FieldType)) ∈ lw_all := lw_g (lw_at lw_m4 83 rfl) rfl
theorem q857 : (Jvm.Cond.methodLink "HutForShow" (258 : Nat) ({ cls := "HutForShow$Wood", name := "copy", desc := "(LHutForShow$Wood;)V" } : Jvm.MethodName)) ∈ lw_all := lw_g (lw_at lw_m4 84 rfl) rfl
theorem q865 : (Jvm.Cond.instanceMethod ({ cls := "HutForShow", name := "lost", desc := "(I)I" } : Jvm.MethodName)) ∈ lw_all := lw_g (lw_at lw_m4 92 rfl) rfl
theorem q866 : (Jvm.Cond.selects "HutForShow" ({ cls := "HutForShow", name := "lost", desc := "(I)I" } : Jvm.MethodName) ({ cls := "HutForShow", name := "lost", desc := "(I)I" } : Jvm.MethodName)) ∈ lw_all := lw_g (lw_at lw_m4 93 rfl) rfl
theorem q867 : (Jvm.Cond.code ({ cls := "HutForShow", name := "lost", desc := "(I)I" } : Jvm.MethodName) prog_1_method_28_code (3 : Nat) (Option.some Jvm.ClassFile.FieldType.int)) ∈ lw_all := lw_g (lw_at lw_m4 94 rfl) rfl
theorem q868 : (Jvm.Cond.methodLink "HutForShow" (266 : Nat) ({ cls := "HutForShow$Wood", name := "allSticks", desc := "()I" } : Jvm.MethodName)) ∈ lw_all := lw_g (lw_at lw_m4 95 rfl) rfl
theorem q873 : (Jvm.Cond.instanceMethod ({ cls := "HutForShow", name := "uneven", desc := "(JI)I" } : Jvm.MethodName)) ∈ lw_all := lw_g (lw_at lw_m4 100 rfl) rfl
theorem q874 : (Jvm.Cond.selects "HutForShow" ({ cls := "HutForShow", name := "uneven", desc := "(JI)I" } : Jvm.MethodName) ({ cls := "HutForShow", name := "uneven", desc := "(JI)I" } : Jvm.MethodName)) ∈ lw_all := lw_g (lw_at lw_m4 101 rfl) rfl
theorem q875 : (Jvm.Cond.code ({ cls := "HutForShow", name := "uneven", desc := "(JI)I" } : Jvm.MethodName) prog_1_method_32_code (5 : Nat) (Option.some Jvm.ClassFile.FieldType.int)) ∈ lw_all := lw_g (lw_at lw_m4 102 rfl) rfl
theorem q876 : (Jvm.Cond.methodLink "HutForShow" (282 : Nat) ({ cls := "HutForShow", name := "layHand", desc := "(JI)I" } : Jvm.MethodName)) ∈ lw_all := lw_g (lw_at lw_m4 103 rfl) rfl
theorem q877 : (Jvm.Cond.privateMethod ({ cls := "HutForShow", name := "layHand", desc := "(JI)I" } : Jvm.MethodName)) ∈ lw_tbl := lw_at lw_m4 104 rfl
theorem q878 : (Jvm.Cond.instanceMethod ({ cls := "HutForShow", name := "layHand", desc := "(JI)I" } : Jvm.MethodName)) ∈ lw_all := lw_g (lw_at lw_m4 105 rfl) rfl
theorem q879 : (Jvm.Cond.code ({ cls := "HutForShow", name := "layHand", desc := "(JI)I" } : Jvm.MethodName) prog_1_method_29_code (8 : Nat) (Option.some Jvm.ClassFile.FieldType.int)) ∈ lw_all := lw_g (lw_at lw_m4 106 rfl) rfl
theorem q880 : (Jvm.Cond.constantLong "HutForShow" (269 : Nat) (7 : Int64)) ∈ lw_all := lw_g (lw_at lw_m4 107 rfl) rfl
theorem q881 : (Jvm.Cond.constantLong "HutForShow" (271 : Nat) (63 : Int64)) ∈ lw_all := lw_g (lw_at lw_m4 108 rfl) rfl
theorem q882 : (Jvm.Cond.methodLink "HutForShow" (286 : Nat) ({ cls := "HutForShow", name := "unevenOf", desc := "([II)I" } : Jvm.MethodName)) ∈ lw_all := lw_g (lw_at lw_m4 109 rfl) rfl
theorem q883 : (Jvm.Cond.privateMethod ({ cls := "HutForShow", name := "unevenOf", desc := "([II)I" } : Jvm.MethodName)) ∈ lw_tbl := lw_at lw_m4 110 rfl
theorem q884 : (Jvm.Cond.instanceMethod ({ cls := "HutForShow", name := "unevenOf", desc := "([II)I" } : Jvm.MethodName)) ∈ lw_all := lw_g (lw_at lw_m4 111 rfl) rfl
theorem q885 : (Jvm.Cond.code ({ cls := "HutForShow", name := "unevenOf", desc := "([II)I" } : Jvm.MethodName) prog_1_method_31_code (5 : Nat) (Option.some Jvm.ClassFile.FieldType.int)) ∈ lw_all := lw_g (lw_at lw_m4 112 rfl) rfl
theorem q886 : (Jvm.Cond.methodLink "HutForShow" (273 : Nat) ({ cls := "HutForShow", name := "looks", desc := "(II)I" } : Jvm.MethodName)) ∈ lw_all := lw_g (lw_at lw_m4 113 rfl) rfl
theorem q887 : (Jvm.Cond.privateMethod ({ cls := "HutForShow", name := "looks", desc := "(II)I" } : Jvm.MethodName)) ∈ lw_tbl := lw_at lw_m4 114 rfl
theorem q888 : (Jvm.Cond.instanceMethod ({ cls := "HutForShow", name := "looks", desc := "(II)I" } : Jvm.MethodName)) ∈ lw_all := lw_g (lw_at lw_m4 115 rfl) rfl
theorem q889 : (Jvm.Cond.code ({ cls := "HutForShow", name := "looks", desc := "(II)I" } : Jvm.MethodName) prog_1_method_30_code (3 : Nat) (Option.some Jvm.ClassFile.FieldType.int)) ∈ lw_all := lw_g (lw_at lw_m4 116 rfl) rfl
theorem q890 : (Jvm.Cond.methodLink "HutForShow" (277 : Nat) ({ cls := "java/lang/Math", name := "abs", desc := "(I)I" } : Jvm.MethodName)) ∈ lw_all := lw_g (lw_at lw_m4 117 rfl) rfl
theorem q892 : (Jvm.Cond.instanceMethod ({ cls := "HutForShow", name := "evenest", desc := "(JII)I" } : Jvm.MethodName)) ∈ lw_all := lw_g (lw_at lw_m4 119 rfl) rfl
theorem q893 : (Jvm.Cond.selects "HutForShow" ({ cls := "HutForShow", name := "evenest", desc := "(JII)I" } : Jvm.MethodName) ({ cls := "HutForShow", name := "evenest", desc := "(JII)I" } : Jvm.MethodName)) ∈ lw_all := lw_g (lw_at lw_m4 120 rfl) rfl
theorem q894 : (Jvm.Cond.code ({ cls := "HutForShow", name := "evenest", desc := "(JII)I" } : Jvm.MethodName) prog_1_method_35_code (8 : Nat) (Option.some Jvm.ClassFile.FieldType.int)) ∈ lw_all := lw_g (lw_at lw_m4 121 rfl) rfl
theorem q895 : (Jvm.Cond.constant "HutForShow" (290 : Nat) (268435456 : Int32)) ∈ lw_all := lw_g (lw_at lw_m4 122 rfl) rfl
theorem q896 : (Jvm.Cond.methodLink "HutForShow" (291 : Nat) ({ cls := "HutForShow", name := "isInHand", desc := "(II)Z" } : Jvm.MethodName)) ∈ lw_all := lw_g (lw_at lw_m4 123 rfl) rfl
theorem q897 : (Jvm.Cond.privateMethod ({ cls := "HutForShow", name := "isInHand", desc := "(II)Z" } : Jvm.MethodName)) ∈ lw_tbl := lw_at lw_m4 124 rfl
theorem q898 : (Jvm.Cond.instanceMethod ({ cls := "HutForShow", name := "isInHand", desc := "(II)Z" } : Jvm.MethodName)) ∈ lw_all := lw_g (lw_at lw_m4 125 rfl) rfl
theorem q899 : (Jvm.Cond.code ({ cls := "HutForShow", name := "isInHand", desc := "(II)Z" } : Jvm.MethodName) prog_1_method_34_code (4 : Nat) (Option.some Jvm.ClassFile.FieldType.boolean)) ∈ lw_all := lw_g (lw_at lw_m4 126 rfl) rfl
theorem q900 : (Jvm.Cond.methodLink "HutForShow" (295 : Nat) ({ cls := "HutForShow", name := "hasAhead", desc := "([II)Z" } : Jvm.MethodName)) ∈ lw_all := lw_g (lw_at lw_m4 127 rfl) rfl
theorem q901 : (Jvm.Cond.static ({ cls := "HutForShow", name := "hasAhead", desc := "([II)Z" } : Jvm.MethodName)) ∈ lw_all := lw_g (lw_at lw_m4 128 rfl) rfl
theorem q902 : (Jvm.Cond.code ({ cls := "HutForShow", name := "hasAhead", desc := "([II)Z" } : Jvm.MethodName) prog_1_method_33_code (3 : Nat) (Option.some Jvm.ClassFile.FieldType.boolean)) ∈ lw_all := lw_g (lw_at lw_m4 129 rfl) rfl
theorem q903 : (Jvm.Cond.methodLink "HutForShow" (299 : Nat) ({ cls := "java/lang/System", name := "arraycopy", desc := "(Ljava/lang/Object;ILjava/lang/Object;II)V" } : Jvm.MethodName)) ∈ lw_all := lw_g (lw_at lw_m4 130 rfl) rfl
theorem q905 : (Jvm.Cond.instanceMethod ({ cls := "HutForShow", name := "guest", desc := "(II)I" } : Jvm.MethodName)) ∈ lw_all := lw_g (lw_at lw_m4 132 rfl) rfl
theorem q906 : (Jvm.Cond.selects "HutForShow" ({ cls := "HutForShow", name := "guest", desc := "(II)I" } : Jvm.MethodName) ({ cls := "HutForShow", name := "guest", desc := "(II)I" } : Jvm.MethodName)) ∈ lw_all := lw_g (lw_at lw_m4 133 rfl) rfl
theorem q907 : (Jvm.Cond.code ({ cls := "HutForShow", name := "guest", desc := "(II)I" } : Jvm.MethodName) prog_1_method_36_code (3 : Nat) (Option.some Jvm.ClassFile.FieldType.int)) ∈ lw_all := lw_g (lw_at lw_m4 134 rfl) rfl
theorem q909 : (Jvm.Cond.instanceMethod ({ cls := "HutForShow", name := "held", desc := "(I)I" } : Jvm.MethodName)) ∈ lw_all := lw_g (lw_at lw_m4 136 rfl) rfl
theorem q910 : (Jvm.Cond.selects "HutForShow" ({ cls := "HutForShow", name := "held", desc := "(I)I" } : Jvm.MethodName) ({ cls := "HutForShow", name := "held", desc := "(I)I" } : Jvm.MethodName)) ∈ lw_all := lw_g (lw_at lw_m4 137 rfl) rfl
theorem q911 : (Jvm.Cond.code ({ cls := "HutForShow", name := "held", desc := "(I)I" } : Jvm.MethodName) prog_1_method_38_code (4 : Nat) (Option.some Jvm.ClassFile.FieldType.int)) ∈ lw_all := lw_g (lw_at lw_m4 138 rfl) rfl
theorem q912 : (Jvm.Cond.methodLink "HutForShow" (311 : Nat) ({ cls := "HutForShow", name := "stay", desc := "(I)I" } : Jvm.MethodName)) ∈ lw_all := lw_g (lw_at lw_m4 139 rfl) rfl
theorem q913 : (Jvm.Cond.privateMethod ({ cls := "HutForShow", name := "stay", desc := "(I)I" } : Jvm.MethodName)) ∈ lw_tbl := lw_at lw_m4 140 rfl
theorem q914 : (Jvm.Cond.instanceMethod ({ cls := "HutForShow", name := "stay", desc := "(I)I" } : Jvm.MethodName)) ∈ lw_all := lw_g (lw_at lw_m4 141 rfl) rfl
theorem q915 : (Jvm.Cond.code ({ cls := "HutForShow", name := "stay", desc := "(I)I" } : Jvm.MethodName) prog_1_method_37_code (6 : Nat) (Option.some Jvm.ClassFile.FieldType.int)) ∈ lw_all := lw_g (lw_at lw_m4 142 rfl) rfl
theorem q916 : (Jvm.Cond.methodLink "HutForShow" (308 : Nat) ({ cls := "HutForShow", name := "isSet", desc := "(II)Z" } : Jvm.MethodName)) ∈ lw_all := lw_g (lw_at lw_m4 143 rfl) rfl
theorem q917 : (Jvm.Cond.static ({ cls := "HutForShow", name := "isSet", desc := "(II)Z" } : Jvm.MethodName)) ∈ lw_all := lw_g (lw_at lw_m4 144 rfl) rfl
theorem q918 : (Jvm.Cond.code ({ cls := "HutForShow", name := "isSet", desc := "(II)Z" } : Jvm.MethodName) prog_1_method_2_code (2 : Nat) (Option.some Jvm.ClassFile.FieldType.boolean)) ∈ lw_all := lw_g (lw_at lw_m4 145 rfl) rfl
theorem q920 : (Jvm.Cond.instanceMethod ({ cls := "HutForShow", name := "row", desc := "(II)I" } : Jvm.MethodName)) ∈ lw_all := lw_g (lw_at lw_m4 147 rfl) rfl
theorem q921 : (Jvm.Cond.selects "HutForShow" ({ cls := "HutForShow", name := "row", desc := "(II)I" } : Jvm.MethodName) ({ cls := "HutForShow", name := "row", desc := "(II)I" } : Jvm.MethodName)) ∈ lw_all := lw_g (lw_at lw_m4 148 rfl) rfl
theorem q922 : (Jvm.Cond.code ({ cls := "HutForShow", name := "row", desc := "(II)I" } : Jvm.MethodName) prog_1_method_41_code (6 : Nat) (Option.some Jvm.ClassFile.FieldType.int)) ∈ lw_all := lw_g (lw_at lw_m4 149 rfl) rfl
theorem q923 : (Jvm.Cond.constantLong "HutForShow" (314 : Nat) (-1 : Int64)) ∈ lw_all := lw_g (lw_at lw_m4 150 rfl) rfl
theorem q924 : (Jvm.Cond.methodLink "HutForShow" (316 : Nat) ({ cls := "java/lang/Integer", name := "bitCount", desc := "(I)I" } : Jvm.MethodName)) ∈ lw_all := lw_g (lw_at lw_m4 151 rfl) rfl
theorem q930 : (Jvm.Cond.methodLink "HutForShow" (319 : Nat) ({ cls := "HutForShow", name := "isAhead", desc := "(II)Z" } : Jvm.MethodName)) ∈ lw_all := lw_g (lw_at lw_m4 157 rfl) rfl
theorem q931 : (Jvm.Cond.static ({ cls := "HutForShow", name := "isAhead", desc := "(II)Z" } : Jvm.MethodName)) ∈ lw_all := lw_g (lw_at lw_m4 158 rfl) rfl
theorem q932 : (Jvm.Cond.code ({ cls := "HutForShow", name := "isAhead", desc := "(II)Z" } : Jvm.MethodName) prog_1_method_40_code (3 : Nat) (Option.some Jvm.ClassFile.FieldType.boolean)) ∈ lw_all := lw_g (lw_at lw_m4 159 rfl) rfl
theorem q933 : (Jvm.Cond.methodLink "HutForShow" (322 : Nat) ({ cls := "HutForShow", name := "ith", desc := "(II)I" } : Jvm.MethodName)) ∈ lw_all := lw_g (lw_at lw_m4 160 rfl) rfl
theorem q934 : (Jvm.Cond.static ({ cls := "HutForShow", name := "ith", desc := "(II)I" } : Jvm.MethodName)) ∈ lw_all := lw_g (lw_at lw_m4 161 rfl) rfl
theorem q935 : (Jvm.Cond.code ({ cls := "HutForShow", name := "ith", desc := "(II)I" } : Jvm.MethodName) prog_1_method_39_code (4 : Nat) (Option.some Jvm.ClassFile.FieldType.int)) ∈ lw_all := lw_g (lw_at lw_m4 162 rfl) rfl
theorem q937 : (Jvm.Cond.instanceMethod ({ cls := "HutForShow", name := "seen", desc := "(III)I" } : Jvm.MethodName)) ∈ lw_all := lw_g (lw_at lw_m4 164 rfl) rfl
theorem q938 : (Jvm.Cond.selects "HutForShow" ({ cls := "HutForShow", name := "seen", desc := "(III)I" } : Jvm.MethodName) ({ cls := "HutForShow", name := "seen", desc := "(III)I" } : Jvm.MethodName)) ∈ lw_all := lw_g (lw_at lw_m4 165 rfl) rfl
theorem q939 : (Jvm.Cond.code ({ cls := "HutForShow", name := "seen", desc := "(III)I" } : Jvm.MethodName) prog_1_method_43_code (4 : Nat) (Option.some Jvm.ClassFile.FieldType.int)) ∈ lw_all := lw_g (lw_at lw_m4 166 rfl) rfl
theorem q940 : (Jvm.Cond.methodLink "HutForShow" (325 : Nat) ({ cls := "HutForShow", name := "isMark", desc := "(I)Z" } : Jvm.MethodName)) ∈ lw_all := lw_g (lw_at lw_m4 167 rfl) rfl
theorem q941 : (Jvm.Cond.static ({ cls := "HutForShow", name := "isMark", desc := "(I)Z" } : Jvm.MethodName)) ∈ lw_all := lw_g (lw_at lw_m4 168 rfl) rfl
theorem q942 : (Jvm.Cond.code ({ cls := "HutForShow", name := "isMark", desc := "(I)Z" } : Jvm.MethodName) prog_1_method_42_code (1 : Nat) (Option.some Jvm.ClassFile.FieldType.boolean)) ∈ lw_all := lw_g (lw_at lw_m4 169 rfl) rfl
theorem q943 : (Jvm.Cond.constantLong "HutForShow" (328 : Nat) (900 : Int64)) ∈ lw_all := lw_g (lw_at lw_m4 170 rfl) rfl
theorem q945 : (Jvm.Cond.instanceMethod ({ cls := "HutForShow", name := "whose", desc := "(I)I" } : Jvm.MethodName)) ∈ lw_all := lw_g (lw_at lw_m4 172 rfl) rfl
theorem q946 : (Jvm.Cond.selects "HutForShow" ({ cls := "HutForShow", name := "whose", desc := "(I)I" } : Jvm.MethodName) ({ cls := "HutForShow", name := "whose", desc := "(I)I" } : Jvm.MethodName)) ∈ lw_all := lw_g (lw_at lw_m4 173 rfl) rfl
theorem q947 : (Jvm.Cond.code ({ cls := "HutForShow", name := "whose", desc := "(I)I" } : Jvm.MethodName) prog_1_method_45_code (3 : Nat) (Option.some Jvm.ClassFile.FieldType.int)) ∈ lw_all := lw_g (lw_at lw_m4 174 rfl) rfl
theorem q948 : (Jvm.Cond.methodLink "HutForShow" (333 : Nat) ({ cls := "HutForShow", name := "firstOf", desc := "(I)I" } : Jvm.MethodName)) ∈ lw_all := lw_g (lw_at lw_m4 175 rfl) rfl
theorem q949 : (Jvm.Cond.privateMethod ({ cls := "HutForShow", name := "firstOf", desc := "(I)I" } : Jvm.MethodName)) ∈ lw_tbl := lw_at lw_m4 176 rfl
theorem q950 : (Jvm.Cond.instanceMethod ({ cls := "HutForShow", name := "firstOf", desc := "(I)I" } : Jvm.MethodName)) ∈ lw_all := lw_g (lw_at lw_m4 177 rfl) rfl
theorem q951 : (Jvm.Cond.code ({ cls := "HutForShow", name := "firstOf", desc := "(I)I" } : Jvm.MethodName) prog_1_method_44_code (4 : Nat) (Option.some Jvm.ClassFile.FieldType.int)) ∈ lw_all := lw_g (lw_at lw_m4 178 rfl) rfl
theorem q953 : (Jvm.Cond.instanceMethod ({ cls := "HutForShow", name := "thieves", desc := "(I)I" } : Jvm.MethodName)) ∈ lw_all := lw_g (lw_at lw_m4 180 rfl) rfl
theorem q954 : (Jvm.Cond.selects "HutForShow" ({ cls := "HutForShow", name := "thieves", desc := "(I)I" } : Jvm.MethodName) ({ cls := "HutForShow", name := "thieves", desc := "(I)I" } : Jvm.MethodName)) ∈ lw_all := lw_g (lw_at lw_m4 181 rfl) rfl
theorem q955 : (Jvm.Cond.code ({ cls := "HutForShow", name := "thieves", desc := "(I)I" } : Jvm.MethodName) prog_1_method_46_code (6 : Nat) (Option.some Jvm.ClassFile.FieldType.int)) ∈ lw_all := lw_g (lw_at lw_m4 182 rfl) rfl
theorem q957 : (Jvm.Cond.instanceMethod ({ cls := "HutForShow", name := "gains", desc := "(II)I" } : Jvm.MethodName)) ∈ lw_all := lw_g (lw_at lw_m4 184 rfl) rfl
theorem q958 : (Jvm.Cond.selects "HutForShow" ({ cls := "HutForShow", name := "gains", desc := "(II)I" } : Jvm.MethodName) ({ cls := "HutForShow", name := "gains", desc := "(II)I" } : Jvm.MethodName)) ∈ lw_all := lw_g (lw_at lw_m4 185 rfl) rfl
theorem q959 : (Jvm.Cond.code ({ cls := "HutForShow", name := "gains", desc := "(II)I" } : Jvm.MethodName) prog_1_method_50_code (3 : Nat) (Option.some Jvm.ClassFile.FieldType.int)) ∈ lw_all := lw_g (lw_at lw_m4 186 rfl) rfl
theorem q960 : (Jvm.Cond.methodLink "HutForShow" (339 : Nat) ({ cls := "HutForShow", name := "areHuts", desc := "(I)Z" } : Jvm.MethodName)) ∈ lw_all := lw_g (lw_at lw_m4 187 rfl) rfl
theorem q961 : (Jvm.Cond.privateMethod ({ cls := "HutForShow", name := "areHuts", desc := "(I)Z" } : Jvm.MethodName)) ∈ lw_tbl := lw_at lw_m4 188 rfl
theorem q962 : (Jvm.Cond.instanceMethod ({ cls := "HutForShow", name := "areHuts", desc := "(I)Z" } : Jvm.MethodName)) ∈ lw_all := lw_g (lw_at lw_m4 189 rfl) rfl
theorem q963 : (Jvm.Cond.code ({ cls := "HutForShow", name := "areHuts", desc := "(I)Z" } : Jvm.MethodName) prog_1_method_49_code (2 : Nat) (Option.some Jvm.ClassFile.FieldType.boolean)) ∈ lw_all := lw_g (lw_at lw_m4 190 rfl) rfl
theorem q964 : (Jvm.Cond.methodLink "HutForShow" (342 : Nat) ({ cls := "HutForShow", name := "gainsOf", desc := "(II)I" } : Jvm.MethodName)) ∈ lw_all := lw_g (lw_at lw_m4 191 rfl) rfl
theorem q965 : (Jvm.Cond.privateMethod ({ cls := "HutForShow", name := "gainsOf", desc := "(II)I" } : Jvm.MethodName)) ∈ lw_tbl := lw_at lw_m4 192 rfl
theorem q966 : (Jvm.Cond.instanceMethod ({ cls := "HutForShow", name := "gainsOf", desc := "(II)I" } : Jvm.MethodName)) ∈ lw_all := lw_g (lw_at lw_m4 193 rfl) rfl
theorem q967 : (Jvm.Cond.code ({ cls := "HutForShow", name := "gainsOf", desc := "(II)I" } : Jvm.MethodName) prog_1_method_48_code (6 : Nat) (Option.some Jvm.ClassFile.FieldType.int)) ∈ lw_all := lw_g (lw_at lw_m4 194 rfl) rfl
theorem q968 : (Jvm.Cond.methodLink "HutForShow" (336 : Nat) ({ cls := "HutForShow", name := "nearest", desc := "(I)I" } : Jvm.MethodName)) ∈ lw_all := lw_g (lw_at lw_m4 195 rfl) rfl
theorem q969 : (Jvm.Cond.privateMethod ({ cls := "HutForShow", name := "nearest", desc := "(I)I" } : Jvm.MethodName)) ∈ lw_tbl := lw_at lw_m4 196 rfl
theorem q970 : (Jvm.Cond.instanceMethod ({ cls := "HutForShow", name := "nearest", desc := "(I)I" } : Jvm.MethodName)) ∈ lw_all := lw_g (lw_at lw_m4 197 rfl) rfl
theorem q971 : (Jvm.Cond.code ({ cls := "HutForShow", name := "nearest", desc := "(I)I" } : Jvm.MethodName) prog_1_method_47_code (4 : Nat) (Option.some Jvm.ClassFile.FieldType.int)) ∈ lw_all := lw_g (lw_at lw_m4 198 rfl) rfl
theorem q972 : (Jvm.Cond.constant "HutForShow" (345 : Nat) (-2147483648 : Int32)) ∈ lw_all := lw_g (lw_at lw_m4 199 rfl) rfl
theorem q974 : (Jvm.Cond.instanceMethod ({ cls := "HutForShow", name := "even", desc := "(I)I" } : Jvm.MethodName)) ∈ lw_all := lw_g (lw_at lw_m4 201 rfl) rfl
theorem q975 : (Jvm.Cond.selects "HutForShow" ({ cls := "HutForShow", name := "even", desc := "(I)I" } : Jvm.MethodName) ({ cls := "HutForShow", name := "even", desc := "(I)I" } : Jvm.MethodName)) ∈ lw_all := lw_g (lw_at lw_m4 202 rfl) rfl
theorem q976 : (Jvm.Cond.code ({ cls := "HutForShow", name := "even", desc := "(I)I" } : Jvm.MethodName) prog_1_method_52_code (4 : Nat) (Option.some Jvm.ClassFile.FieldType.int)) ∈ lw_all := lw_g (lw_at lw_m4 203 rfl) rfl
theorem q977 : (Jvm.Cond.methodLink "HutForShow" (346 : Nat) ({ cls := "HutForShow", name := "changes", desc := "(I)I" } : Jvm.MethodName)) ∈ lw_all := lw_g (lw_at lw_m4 204 rfl) rfl
theorem q978 : (Jvm.Cond.privateMethod ({ cls := "HutForShow", name := "changes", desc := "(I)I" } : Jvm.MethodName)) ∈ lw_tbl := lw_at lw_m4 205 rfl
theorem q979 : (Jvm.Cond.instanceMethod ({ cls := "HutForShow", name := "changes", desc := "(I)I" } : Jvm.MethodName)) ∈ lw_all := lw_g (lw_at lw_m4 206 rfl) rfl
theorem q980 : (Jvm.Cond.code ({ cls := "HutForShow", name := "changes", desc := "(I)I" } : Jvm.MethodName) prog_1_method_51_code (3 : Nat) (Option.some Jvm.ClassFile.FieldType.int)) ∈ lw_all := lw_g (lw_at lw_m4 207 rfl) rfl
theorem q982 : (Jvm.Cond.instanceMethod ({ cls := "HutForShow", name := "ring", desc := "(I)I" } : Jvm.MethodName)) ∈ lw_all := lw_g (lw_at lw_m4 209 rfl) rfl
theorem q983 : (Jvm.Cond.selects "HutForShow" ({ cls := "HutForShow", name := "ring", desc := "(I)I" } : Jvm.MethodName) ({ cls := "HutForShow", name := "ring", desc := "(I)I" } : Jvm.MethodName)) ∈ lw_all := lw_g (lw_at lw_m4 210 rfl) rfl
theorem q984 : (Jvm.Cond.code ({ cls := "HutForShow", name := "ring", desc := "(I)I" } : Jvm.MethodName) prog_1_method_53_code (5 : Nat) (Option.some Jvm.ClassFile.FieldType.int)) ∈ lw_all := lw_g (lw_at lw_m4 211 rfl) rfl
theorem q986 : (Jvm.Cond.instanceMethod ({ cls := "HutForShow", name := "chose", desc := "(IIIIZ)I" } : Jvm.MethodName)) ∈ lw_all := lw_g (lw_at lw_m4 213 rfl) rfl
theorem q987 : (Jvm.Cond.selects "HutForShow" ({ cls := "HutForShow", name := "chose", desc := "(IIIIZ)I" } : Jvm.MethodName) ({ cls := "HutForShow", name := "chose", desc := "(IIIIZ)I" } : Jvm.MethodName)) ∈ lw_all := lw_g (lw_at lw_m4 214 rfl) rfl
theorem q988 : (Jvm.Cond.code ({ cls := "HutForShow", name := "chose", desc := "(IIIIZ)I" } : Jvm.MethodName) prog_1_method_55_code (6 : Nat) (Option.some Jvm.ClassFile.FieldType.int)) ∈ lw_all := lw_g (lw_at lw_m4 215 rfl) rfl
theorem q989 : (Jvm.Cond.methodLink "HutForShow" (349 : Nat) ({ cls := "HutForShow", name := "areTold", desc := "(IIII)Z" } : Jvm.MethodName)) ∈ lw_all := lw_g (lw_at lw_m4 216 rfl) rfl
theorem q990 : (Jvm.Cond.static ({ cls := "HutForShow", name := "areTold", desc := "(IIII)Z" } : Jvm.MethodName)) ∈ lw_all := lw_g (lw_at lw_m4 217 rfl) rfl
theorem q991 : (Jvm.Cond.code ({ cls := "HutForShow", name := "areTold", desc := "(IIII)Z" } : Jvm.MethodName) prog_1_method_54_code (4 : Nat) (Option.some Jvm.ClassFile.FieldType.boolean)) ∈ lw_all := lw_g (lw_at lw_m4 218 rfl) rfl
theorem q993 : (Jvm.Cond.methodLink "HutForShow" (356 : Nat) ({ cls := "HutForShow$Pair", name := "<init>", desc := "(II)V" } : Jvm.MethodName)) ∈ lw_all := lw_g (lw_at lw_m4 220 rfl) rfl
theorem q1005 : (Jvm.Cond.instanceMethod ({ cls := "HutForShow", name := "may", desc := "(I)I" } : Jvm.MethodName)) ∈ lw_all := lw_g (lw_at lw_m4 232 rfl) rfl
theorem q1006 : (Jvm.Cond.selects "HutForShow" ({ cls := "HutForShow", name := "may", desc := "(I)I" } : Jvm.MethodName) ({ cls := "HutForShow", name := "may", desc := "(I)I" } : Jvm.MethodName)) ∈ lw_all := lw_g (lw_at lw_m4 233 rfl) rfl
theorem q1007 : (Jvm.Cond.code ({ cls := "HutForShow", name := "may", desc := "(I)I" } : Jvm.MethodName) prog_1_method_57_code (6 : Nat) (Option.some Jvm.ClassFile.FieldType.int)) ∈ lw_all := lw_g (lw_at lw_m4 234 rfl) rfl
theorem q1008 : (Jvm.Cond.methodLink "HutForShow" (360 : Nat) ({ cls := "HutForShow", name := "mayBe", desc := "(II)Z" } : Jvm.MethodName)) ∈ lw_all := lw_g (lw_at lw_m4 235 rfl) rfl
theorem q1009 : (Jvm.Cond.privateMethod ({ cls := "HutForShow", name := "mayBe", desc := "(II)Z" } : Jvm.MethodName)) ∈ lw_tbl := lw_at lw_m4 236 rfl
theorem q1010 : (Jvm.Cond.instanceMethod ({ cls := "HutForShow", name := "mayBe", desc := "(II)Z" } : Jvm.MethodName)) ∈ lw_all := lw_g (lw_at lw_m4 237 rfl) rfl
theorem q1011 : (Jvm.Cond.code ({ cls := "HutForShow", name := "mayBe", desc := "(II)Z" } : Jvm.MethodName) prog_1_method_56_code (5 : Nat) (Option.some Jvm.ClassFile.FieldType.boolean)) ∈ lw_all := lw_g (lw_at lw_m4 238 rfl) rfl
theorem q1012 : (Jvm.Cond.methodLink "HutForShow" (357 : Nat) ({ cls := "HutForShow$Pair", name := "isFirst", desc := "(II)Z" } : Jvm.MethodName)) ∈ lw_all := lw_g (lw_at lw_m4 239 rfl) rfl
theorem q1017 : (Jvm.Cond.instanceMethod ({ cls := "HutForShow", name := "pair", desc := "(IIII)I" } : Jvm.MethodName)) ∈ lw_all := lw_g (lw_at lw_m5 4 rfl) rfl
theorem q1018 : (Jvm.Cond.selects "HutForShow" ({ cls := "HutForShow", name := "pair", desc := "(IIII)I" } : Jvm.MethodName) ({ cls := "HutForShow", name := "pair", desc := "(IIII)I" } : Jvm.MethodName)) ∈ lw_all := lw_g (lw_at lw_m5 5 rfl) rfl
theorem q1019 : (Jvm.Cond.code ({ cls := "HutForShow", name := "pair", desc := "(IIII)I" } : Jvm.MethodName) prog_1_method_58_code (5 : Nat) (Option.some Jvm.ClassFile.FieldType.int)) ∈ lw_all := lw_g (lw_at lw_m5 6 rfl) rfl
theorem q1021 : (Jvm.Cond.instanceMethod ({ cls := "HutForShow", name := "parting", desc := "()I" } : Jvm.MethodName)) ∈ lw_all := lw_g (lw_at lw_m5 8 rfl) rfl
theorem q1022 : (Jvm.Cond.selects "HutForShow" ({ cls := "HutForShow", name := "parting", desc := "()I" } : Jvm.MethodName) ({ cls := "HutForShow", name := "parting", desc := "()I" } : Jvm.MethodName)) ∈ lw_all := lw_g (lw_at lw_m5 9 rfl) rfl
theorem q1023 : (Jvm.Cond.code ({ cls := "HutForShow", name := "parting", desc := "()I" } : Jvm.MethodName) prog_1_method_59_code (6 : Nat) (Option.some Jvm.ClassFile.FieldType.int)) ∈ lw_all := lw_g (lw_at lw_m5 10 rfl) rfl
theorem q1024 : (Jvm.Cond.methodLink "HutForShow" (366 : Nat) ({ cls := "HutForShow", name := "may", desc := "(I)I" } : Jvm.MethodName)) ∈ lw_all := lw_g (lw_at lw_m5 11 rfl) rfl
theorem q1026 : (Jvm.Cond.instanceMethod ({ cls := "HutForShow", name := "spot", desc := "(II)I" } : Jvm.MethodName)) ∈ lw_all := lw_g (lw_at lw_m5 13 rfl) rfl
theorem q1027 : (Jvm.Cond.selects "HutForShow" ({ cls := "HutForShow", name := "spot", desc := "(II)I" } : Jvm.MethodName) ({ cls := "HutForShow", name := "spot", desc := "(II)I" } : Jvm.MethodName)) ∈ lw_all := lw_g (lw_at lw_m5 14 rfl) rfl
theorem q1028 : (Jvm.Cond.code ({ cls := "HutForShow", name := "spot", desc := "(II)I" } : Jvm.MethodName) prog_1_method_60_code (3 : Nat) (Option.some Jvm.ClassFile.FieldType.int)) ∈ lw_all := lw_g (lw_at lw_m5 15 rfl) rfl
theorem q1030 : (Jvm.Cond.instanceMethod ({ cls := "HutForShow", name := "room", desc := "()I" } : Jvm.MethodName)) ∈ lw_all := lw_g (lw_at lw_m5 17 rfl) rfl
theorem q1031 : (Jvm.Cond.selects "HutForShow" ({ cls := "HutForShow", name := "room", desc := "()I" } : Jvm.MethodName) ({ cls := "HutForShow", name := "room", desc := "()I" } : Jvm.MethodName)) ∈ lw_all := lw_g (lw_at lw_m5 18 rfl) rfl
theorem q1032 : (Jvm.Cond.code ({ cls := "HutForShow", name := "room", desc := "()I" } : Jvm.MethodName) prog_1_method_62_code (3 : Nat) (Option.some Jvm.ClassFile.FieldType.int)) ∈ lw_all := lw_g (lw_at lw_m5 19 rfl) rfl
theorem q1033 : (Jvm.Cond.methodLink "HutForShow" (372 : Nat) ({ cls := "HutForShow", name := "areApart", desc := "(I)Z" } : Jvm.MethodName)) ∈ lw_all := lw_g (lw_at lw_m5 20 rfl) rfl
theorem q1034 : (Jvm.Cond.privateMethod ({ cls := "HutForShow", name := "areApart", desc := "(I)Z" } : Jvm.MethodName)) ∈ lw_tbl := lw_at lw_m5 21 rfl
theorem q1035 : (Jvm.Cond.instanceMethod ({ cls := "HutForShow", name := "areApart", desc := "(I)Z" } : Jvm.MethodName)) ∈ lw_all := lw_g (lw_at lw_m5 22 rfl) rfl
theorem q1036 : (Jvm.Cond.code ({ cls := "HutForShow", name := "areApart", desc := "(I)Z" } : Jvm.MethodName) prog_1_method_61_code (5 : Nat) (Option.some Jvm.ClassFile.FieldType.boolean)) ∈ lw_all := lw_g (lw_at lw_m5 23 rfl) rfl
theorem q1038 : (Jvm.Cond.instanceMethod ({ cls := "HutForShow", name := "trip", desc := "(I)I" } : Jvm.MethodName)) ∈ lw_all := lw_g (lw_at lw_m5 25 rfl) rfl
theorem q1039 : (Jvm.Cond.selects "HutForShow" ({ cls := "HutForShow", name := "trip", desc := "(I)I" } : Jvm.MethodName) ({ cls := "HutForShow", name := "trip", desc := "(I)I" } : Jvm.MethodName)) ∈ lw_all := lw_g (lw_at lw_m5 26 rfl) rfl
theorem q1040 : (Jvm.Cond.code ({ cls := "HutForShow", name := "trip", desc := "(I)I" } : Jvm.MethodName) prog_1_method_63_code (7 : Nat) (Option.some Jvm.ClassFile.FieldType.int)) ∈ lw_all := lw_g (lw_at lw_m5 27 rfl) rfl
theorem q1041 : (Jvm.Cond.methodLink "HutForShow" (375 : Nat) ({ cls := "java/lang/Integer", name := "numberOfTrailingZeros", desc := "(I)I" } : Jvm.MethodName)) ∈ lw_all := lw_g (lw_at lw_m5 28 rfl) rfl
theorem q1045 : (Jvm.Cond.methodLink "HutForShow" (378 : Nat) ({ cls := "java/lang/Math", name := "min", desc := "(II)I" } : Jvm.MethodName)) ∈ lw_all := lw_g (lw_at lw_m5 32 rfl) rfl
theorem q1047 : (Jvm.Cond.instanceMethod ({ cls := "HutForShow", name := "count", desc := "(I)I" } : Jvm.MethodName)) ∈ lw_all := lw_g (lw_at lw_m5 34 rfl) rfl
theorem q1048 : (Jvm.Cond.selects "HutForShow" ({ cls := "HutForShow", name := "count", desc := "(I)I" } : Jvm.MethodName) ({ cls := "HutForShow", name := "count", desc := "(I)I" } : Jvm.MethodName)) ∈ lw_all := lw_g (lw_at lw_m5 35 rfl) rfl
theorem q1049 : (Jvm.Cond.code ({ cls := "HutForShow", name := "count", desc := "(I)I" } : Jvm.MethodName) prog_1_method_64_code (2 : Nat) (Option.some Jvm.ClassFile.FieldType.int)) ∈ lw_all := lw_g (lw_at lw_m5 36 rfl) rfl
theorem q1528 : (Jvm.Cond.stringRef "HutForShow" (383 : Nat) "sticks") ∈ lw_tbl := lw_at lw_m7 35 rfl
theorem q1529 : (Jvm.Cond.stringRef "HutForShow" (384 : Nat) "things") ∈ lw_tbl := lw_at lw_m7 36 rfl
theorem q1530 : (Jvm.Cond.stringRef "HutForShow" (385 : Nat) "blue") ∈ lw_tbl := lw_at lw_m7 37 rfl
theorem q1531 : (Jvm.Cond.stringRef "HutForShow" (386 : Nat) "hunger") ∈ lw_tbl := lw_at lw_m7 38 rfl
theorem q1532 : (Jvm.Cond.stringRef "HutForShow" (387 : Nat) "lost") ∈ lw_tbl := lw_at lw_m7 39 rfl
theorem q1533 : (Jvm.Cond.stringRef "HutForShow" (389 : Nat) "hour") ∈ lw_tbl := lw_at lw_m7 40 rfl
theorem in_X0 : ∀ w ∈ wsX00, w ∈ lw_all := lw_in wsX00 [242, 244, 246, 248, 250, 252, 254, 256, 258, 260, 262, 264, 266, 268, 270, 272, 274, 276, 278, 280, 282, 284, 286, 288, 290, 292, 294, 296, 298, 300, 302, 304, 306] (by decide +kernel) (by decide +kernel)
/-! HutForShow$Act -/
def RX1 : String := "HutForShow$Act"
abbrev cX1_init : ByteArray := prog_2_method_1_code
def yX1_init : MethodName := ⟨RX1, "<init>", "()V"⟩
abbrev cX1_isAway : ByteArray := prog_2_method_3_code
def yX1_isAway : MethodName := ⟨RX1, "isAway", "()Z"⟩
theorem q55 : (Jvm.Cond.initialized "HutForShow$Act") ∈ lw_all := lw_g (lw_at lw_m1 2 rfl) rfl
theorem q96 : (Jvm.Cond.instanceMethod ({ cls := "HutForShow$Act", name := "<init>", desc := "()V" } : Jvm.MethodName)) ∈ lw_all := lw_g (lw_at lw_m1 43 rfl) rfl
theorem q97 : (Jvm.Cond.code ({ cls := "HutForShow$Act", name := "<init>", desc := "()V" } : Jvm.MethodName) prog_2_method_1_code (1 : Nat) (Option.none : Option Jvm.ClassFile.FieldType)) ∈ lw_all := lw_g (lw_at lw_m1 44 rfl) rfl
theorem q98 : (Jvm.Cond.methodLink "HutForShow$Act" (1 : Nat) ({ cls := "java/lang/Object", name := "<init>", desc := "()V" } : Jvm.MethodName)) ∈ lw_all := lw_g (lw_at lw_m1 45 rfl) rfl
theorem q434 : (Jvm.Cond.declares ({ cls := "HutForShow$Act", name := "code", desc := "()I" } : Jvm.MethodName)) ∈ lw_tbl := lw_at lw_m2 141 rfl
theorem q435 : (Jvm.Cond.sameMethod "HutForShow$Act" "HutForShow$Act" "code" "()I") ∈ lw_all := lw_g (lw_at lw_m2 142 rfl) rfl
theorem q452 : (Jvm.Cond.declares ({ cls := "HutForShow$Act", name := "run", desc := "(LHutForShow$Wood;I)V" } : Jvm.MethodName)) ∈ lw_tbl := lw_at lw_m2 159 rfl
theorem q453 : (Jvm.Cond.sameMethod "HutForShow$Act" "HutForShow$Act" "run" "(LHutForShow$Wood;I)V") ∈ lw_all := lw_g (lw_at lw_m2 160 rfl) rfl
theorem q486 : (Jvm.Cond.instanceMethod ({ cls := "HutForShow$Act", name := "isAway", desc := "()Z" } : Jvm.MethodName)) ∈ lw_all := lw_g (lw_at lw_m2 193 rfl) rfl
theorem q487 : (Jvm.Cond.sameMethod "HutForShow$Act" "HutForShow$Act" "isAway" "()Z") ∈ lw_all := lw_g (lw_at lw_m2 194 rfl) rfl
theorem q495 : (Jvm.Cond.code ({ cls := "HutForShow$Act", name := "isAway", desc := "()Z" } : Jvm.MethodName) prog_2_method_3_code (1 : Nat) (Option.some Jvm.ClassFile.FieldType.boolean)) ∈ lw_all := lw_g (lw_at lw_m2 202 rfl) rfl
/-! HutForShow$Guard -/
def RX2 : String := "HutForShow$Guard"
abbrev cX2_init : ByteArray := prog_7_method_1_code
def yX2_init : MethodName := ⟨RX2, "<init>", "()V"⟩
abbrev cX2_code : ByteArray := prog_7_method_2_code
def yX2_code : MethodName := ⟨RX2, "code", "()I"⟩
abbrev cX2_run : ByteArray := prog_7_method_3_code
def yX2_run : MethodName := ⟨RX2, "run", "(LHutForShow$Wood;I)V"⟩
theorem q56 : (Jvm.Cond.initialized "HutForShow$Guard") ∈ lw_all := lw_g (lw_at lw_m1 3 rfl) rfl
theorem q91 : (Jvm.Cond.instantiable "HutForShow$Guard" (0 : Nat)) ∈ lw_all := lw_g (lw_at lw_m1 38 rfl) rfl
theorem q93 : (Jvm.Cond.instanceMethod ({ cls := "HutForShow$Guard", name := "<init>", desc := "()V" } : Jvm.MethodName)) ∈ lw_all := lw_g (lw_at lw_m1 40 rfl) rfl
theorem q94 : (Jvm.Cond.code ({ cls := "HutForShow$Guard", name := "<init>", desc := "()V" } : Jvm.MethodName) prog_7_method_1_code (1 : Nat) (Option.none : Option Jvm.ClassFile.FieldType)) ∈ lw_all := lw_g (lw_at lw_m1 41 rfl) rfl
theorem q95 : (Jvm.Cond.methodLinkNest "HutForShow$Guard" (3 : Nat) ({ cls := "HutForShow$Act", name := "<init>", desc := "()V" } : Jvm.MethodName) "HutForShow") ∈ lw_tbl := lw_at lw_m1 42 rfl
theorem q99 : (Jvm.Cond.superclass "HutForShow$Guard" "HutForShow$Act") ∈ lw_all := lw_g (lw_at lw_m1 46 rfl) rfl
theorem q442 : (Jvm.Cond.selects "HutForShow$Guard" ({ cls := "HutForShow$Act", name := "code", desc := "()I" } : Jvm.MethodName) ({ cls := "HutForShow$Guard", name := "code", desc := "()I" } : Jvm.MethodName)) ∈ lw_all := lw_g (lw_at lw_m2 149 rfl) rfl
theorem q443 : (Jvm.Cond.instanceMethod ({ cls := "HutForShow$Guard", name := "code", desc := "()I" } : Jvm.MethodName)) ∈ lw_all := lw_g (lw_at lw_m2 150 rfl) rfl
theorem q444 : (Jvm.Cond.code ({ cls := "HutForShow$Guard", name := "code", desc := "()I" } : Jvm.MethodName) prog_7_method_2_code (1 : Nat) (Option.some Jvm.ClassFile.FieldType.int)) ∈ lw_all := lw_g (lw_at lw_m2 151 rfl) rfl
theorem q468 : (Jvm.Cond.selects "HutForShow$Guard" ({ cls := "HutForShow$Act", name := "run", desc := "(LHutForShow$Wood;I)V" } : Jvm.MethodName) ({ cls := "HutForShow$Guard", name := "run", desc := "(LHutForShow$Wood;I)V" } : Jvm.MethodName)) ∈ lw_all := lw_g (lw_at lw_m2 175 rfl) rfl
theorem q469 : (Jvm.Cond.instanceMethod ({ cls := "HutForShow$Guard", name := "run", desc := "(LHutForShow$Wood;I)V" } : Jvm.MethodName)) ∈ lw_all := lw_g (lw_at lw_m2 176 rfl) rfl
theorem q470 : (Jvm.Cond.code ({ cls := "HutForShow$Guard", name := "run", desc := "(LHutForShow$Wood;I)V" } : Jvm.MethodName) prog_7_method_3_code (3 : Nat) (Option.none : Option Jvm.ClassFile.FieldType)) ∈ lw_all := lw_g (lw_at lw_m2 177 rfl) rfl
theorem q492 : (Jvm.Cond.selects "HutForShow$Guard" ({ cls := "HutForShow$Act", name := "isAway", desc := "()Z" } : Jvm.MethodName) ({ cls := "HutForShow$Act", name := "isAway", desc := "()Z" } : Jvm.MethodName)) ∈ lw_all := lw_g (lw_at lw_m2 199 rfl) rfl
theorem q1521 : (Jvm.Cond.castable "HutForShow$Guard" "HutForShow$Act") ∈ lw_tbl := lw_at lw_m7 28 rfl
/-! HutForShow$Away -/
def RX3 : String := "HutForShow$Away"
abbrev cX3_init : ByteArray := prog_3_method_1_code
def yX3_init : MethodName := ⟨RX3, "<init>", "()V"⟩
abbrev cX3_isAway : ByteArray := prog_3_method_2_code
def yX3_isAway : MethodName := ⟨RX3, "isAway", "()Z"⟩
theorem q57 : (Jvm.Cond.initialized "HutForShow$Away") ∈ lw_all := lw_g (lw_at lw_m1 4 rfl) rfl
theorem q106 : (Jvm.Cond.instanceMethod ({ cls := "HutForShow$Away", name := "<init>", desc := "()V" } : Jvm.MethodName)) ∈ lw_all := lw_g (lw_at lw_m1 53 rfl) rfl
theorem q107 : (Jvm.Cond.code ({ cls := "HutForShow$Away", name := "<init>", desc := "()V" } : Jvm.MethodName) prog_3_method_1_code (1 : Nat) (Option.none : Option Jvm.ClassFile.FieldType)) ∈ lw_all := lw_g (lw_at lw_m1 54 rfl) rfl
theorem q108 : (Jvm.Cond.methodLinkNest "HutForShow$Away" (1 : Nat) ({ cls := "HutForShow$Act", name := "<init>", desc := "()V" } : Jvm.MethodName) "HutForShow") ∈ lw_tbl := lw_at lw_m1 55 rfl
theorem q489 : (Jvm.Cond.instanceMethod ({ cls := "HutForShow$Away", name := "isAway", desc := "()Z" } : Jvm.MethodName)) ∈ lw_all := lw_g (lw_at lw_m2 196 rfl) rfl
theorem q490 : (Jvm.Cond.code ({ cls := "HutForShow$Away", name := "isAway", desc := "()Z" } : Jvm.MethodName) prog_3_method_2_code (1 : Nat) (Option.some Jvm.ClassFile.FieldType.boolean)) ∈ lw_all := lw_g (lw_at lw_m2 197 rfl) rfl
/-! HutForShow$Feed -/
def RX4 : String := "HutForShow$Feed"
abbrev cX4_init : ByteArray := prog_5_method_1_code
def yX4_init : MethodName := ⟨RX4, "<init>", "()V"⟩
abbrev cX4_code : ByteArray := prog_5_method_2_code
def yX4_code : MethodName := ⟨RX4, "code", "()I"⟩
abbrev cX4_run : ByteArray := prog_5_method_3_code
def yX4_run : MethodName := ⟨RX4, "run", "(LHutForShow$Wood;I)V"⟩
theorem q58 : (Jvm.Cond.initialized "HutForShow$Feed") ∈ lw_all := lw_g (lw_at lw_m1 5 rfl) rfl
theorem q101 : (Jvm.Cond.instantiable "HutForShow$Feed" (0 : Nat)) ∈ lw_all := lw_g (lw_at lw_m1 48 rfl) rfl
theorem q103 : (Jvm.Cond.instanceMethod ({ cls := "HutForShow$Feed", name := "<init>", desc := "()V" } : Jvm.MethodName)) ∈ lw_all := lw_g (lw_at lw_m1 50 rfl) rfl
theorem q104 : (Jvm.Cond.code ({ cls := "HutForShow$Feed", name := "<init>", desc := "()V" } : Jvm.MethodName) prog_5_method_1_code (1 : Nat) (Option.none : Option Jvm.ClassFile.FieldType)) ∈ lw_all := lw_g (lw_at lw_m1 51 rfl) rfl
theorem q105 : (Jvm.Cond.methodLinkNest "HutForShow$Feed" (3 : Nat) ({ cls := "HutForShow$Away", name := "<init>", desc := "()V" } : Jvm.MethodName) "HutForShow") ∈ lw_tbl := lw_at lw_m1 52 rfl
theorem q109 : (Jvm.Cond.superclass "HutForShow$Feed" "HutForShow$Away") ∈ lw_all := lw_g (lw_at lw_m1 56 rfl) rfl
theorem q131 : (Jvm.Cond.fieldLinkNest "HutForShow$Feed" (9 : Nat) "HutForShow$Wood" "hunger" "[I" "HutForShow") ∈ lw_tbl := lw_at lw_m1 78 rfl
theorem q436 : (Jvm.Cond.selects "HutForShow$Feed" ({ cls := "HutForShow$Act", name := "code", desc := "()I" } : Jvm.MethodName) ({ cls := "HutForShow$Feed", name := "code", desc := "()I" } : Jvm.MethodName)) ∈ lw_all := lw_g (lw_at lw_m2 143 rfl) rfl
theorem q437 : (Jvm.Cond.instanceMethod ({ cls := "HutForShow$Feed", name := "code", desc := "()I" } : Jvm.MethodName)) ∈ lw_all := lw_g (lw_at lw_m2 144 rfl) rfl
theorem q438 : (Jvm.Cond.code ({ cls := "HutForShow$Feed", name := "code", desc := "()I" } : Jvm.MethodName) prog_5_method_2_code (1 : Nat) (Option.some Jvm.ClassFile.FieldType.int)) ∈ lw_all := lw_g (lw_at lw_m2 145 rfl) rfl
theorem q454 : (Jvm.Cond.selects "HutForShow$Feed" ({ cls := "HutForShow$Act", name := "run", desc := "(LHutForShow$Wood;I)V" } : Jvm.MethodName) ({ cls := "HutForShow$Feed", name := "run", desc := "(LHutForShow$Wood;I)V" } : Jvm.MethodName)) ∈ lw_all := lw_g (lw_at lw_m2 161 rfl) rfl
theorem q455 : (Jvm.Cond.instanceMethod ({ cls := "HutForShow$Feed", name := "run", desc := "(LHutForShow$Wood;I)V" } : Jvm.MethodName)) ∈ lw_all := lw_g (lw_at lw_m2 162 rfl) rfl
theorem q456 : (Jvm.Cond.code ({ cls := "HutForShow$Feed", name := "run", desc := "(LHutForShow$Wood;I)V" } : Jvm.MethodName) prog_5_method_3_code (3 : Nat) (Option.none : Option Jvm.ClassFile.FieldType)) ∈ lw_all := lw_g (lw_at lw_m2 163 rfl) rfl
theorem q457 : (Jvm.Cond.methodLink "HutForShow$Feed" (15 : Nat) ({ cls := "java/lang/Math", name := "max", desc := "(II)I" } : Jvm.MethodName)) ∈ lw_all := lw_g (lw_at lw_m2 164 rfl) rfl
theorem q488 : (Jvm.Cond.selects "HutForShow$Feed" ({ cls := "HutForShow$Act", name := "isAway", desc := "()Z" } : Jvm.MethodName) ({ cls := "HutForShow$Away", name := "isAway", desc := "()Z" } : Jvm.MethodName)) ∈ lw_all := lw_g (lw_at lw_m2 195 rfl) rfl
theorem q1522 : (Jvm.Cond.castable "HutForShow$Feed" "HutForShow$Act") ∈ lw_tbl := lw_at lw_m7 29 rfl
/-! HutForShow$Wood -/
def RX5 : String := "HutForShow$Wood"
def TX5 : u_T := fun k => match k with
  | 0 => ("HutForShow$Wood", "hour", "I", false)
  | 1 => ("HutForShow$Wood", "sticks", "[I", true)
  | 2 => ("HutForShow$Wood", "hunger", "[I", true)
  | 3 => ("HutForShow$Wood", "taken", "[I", true)
  | 4 => ("HutForShow$Wood", "takenThen", "[I", true)
  | 5 => ("HutForShow$Wood", "codes", "[I", true)
  | 6 => ("HutForShow$Wood", "acts", "[LHutForShow$Act;", true)
  | 7 => ("HutForShow$Wood", "at", "[I", true)
  | _ => ("HutForShow$Wood", "this$0", "LHutForShow;", true)
def tyX5 : Nat → FieldType := fun k => match k with
  | 0 => .int
  | 1 => .array .int
  | 2 => .array .int
  | 3 => .array .int
  | 4 => .array .int
  | 5 => .array .int
  | 6 => .array (.object "HutForShow$Act")
  | 7 => .array .int
  | _ => .object "HutForShow"
abbrev wsX50 : List Cond := u_ws RX5 TX5 9
theorem nmX5 : ∀ a, a < 9 → ∀ b, b < 9 → a ≠ b → (TX5 a).2.1 ≠ (TX5 b).2.1 := by decide +kernel
theorem tyX5_ok : ∀ k, k < 9 → parseFieldDescriptor (TX5 k).2.2.1 = some (tyX5 k) := by decide +kernel
abbrev cX5_init : ByteArray := prog_18_method_1_code
def yX5_init : MethodName := ⟨RX5, "<init>", "(LHutForShow;)V"⟩
abbrev cX5_many : ByteArray := prog_18_method_3_code
def yX5_many : MethodName := ⟨RX5, "many", "(I)I"⟩
abbrev cX5_blue : ByteArray := prog_18_method_4_code
def yX5_blue : MethodName := ⟨RX5, "blue", "(I)I"⟩
abbrev cX5_step : ByteArray := prog_18_method_8_code
def yX5_step : MethodName := ⟨RX5, "step", "(Z)V"⟩
abbrev cX5_actOf : ByteArray := prog_18_method_6_code
def yX5_actOf : MethodName := ⟨RX5, "actOf", "(I)LHutForShow$Act;"⟩
abbrev cX5_leastIn : ByteArray := prog_18_method_5_code
def yX5_leastIn : MethodName := ⟨RX5, "leastIn", "(I)I"⟩
abbrev cX5_raid : ByteArray := prog_18_method_7_code
def yX5_raid : MethodName := ⟨RX5, "raid", "(II)V"⟩
abbrev cX5_copy : ByteArray := prog_18_method_2_code
def yX5_copy : MethodName := ⟨RX5, "copy", "(LHutForShow$Wood;)V"⟩
abbrev cX5_allSticks : ByteArray := prog_18_method_9_code
def yX5_allSticks : MethodName := ⟨RX5, "allSticks", "()I"⟩
theorem q59 : (Jvm.Cond.initialized "HutForShow$Wood") ∈ lw_all := lw_g (lw_at lw_m1 6 rfl) rfl
theorem q115 : (Jvm.Cond.instantiable "HutForShow$Wood" (9 : Nat)) ∈ lw_all := lw_g (lw_at lw_m1 62 rfl) rfl
theorem q117 : (Jvm.Cond.instanceMethod ({ cls := "HutForShow$Wood", name := "<init>", desc := "(LHutForShow;)V" } : Jvm.MethodName)) ∈ lw_all := lw_g (lw_at lw_m1 64 rfl) rfl
theorem q118 : (Jvm.Cond.code ({ cls := "HutForShow$Wood", name := "<init>", desc := "(LHutForShow;)V" } : Jvm.MethodName) prog_18_method_1_code (2 : Nat) (Option.none : Option Jvm.ClassFile.FieldType)) ∈ lw_all := lw_g (lw_at lw_m1 65 rfl) rfl
theorem q119 : (Jvm.Cond.methodLink "HutForShow$Wood" (9 : Nat) ({ cls := "java/lang/Object", name := "<init>", desc := "()V" } : Jvm.MethodName)) ∈ lw_all := lw_g (lw_at lw_m1 66 rfl) rfl
theorem q120 : (Jvm.Cond.classLink "HutForShow$Wood" (31 : Nat) "HutForShow$Act") ∈ lw_all := lw_g (lw_at lw_m1 67 rfl) rfl
theorem q122 : (Jvm.Cond.fieldLink "HutForShow$Wood" (40 : Nat) "HutForShow$Wood" "hour" "I") ∈ lw_all := lw_g (lw_at lw_m1 69 rfl) rfl
theorem q125 : (Jvm.Cond.fieldLink "HutForShow$Wood" (15 : Nat) "HutForShow$Wood" "sticks" "[I") ∈ lw_all := lw_g (lw_at lw_m1 72 rfl) rfl
theorem q130 : (Jvm.Cond.fieldLink "HutForShow$Wood" (19 : Nat) "HutForShow$Wood" "hunger" "[I") ∈ lw_all := lw_g (lw_at lw_m1 77 rfl) rfl
theorem q134 : (Jvm.Cond.fieldLink "HutForShow$Wood" (22 : Nat) "HutForShow$Wood" "taken" "[I") ∈ lw_all := lw_g (lw_at lw_m1 81 rfl) rfl
theorem q137 : (Jvm.Cond.fieldLink "HutForShow$Wood" (25 : Nat) "HutForShow$Wood" "takenThen" "[I") ∈ lw_all := lw_g (lw_at lw_m1 84 rfl) rfl
theorem q138 : (Jvm.Cond.fieldLink "HutForShow$Wood" (28 : Nat) "HutForShow$Wood" "codes" "[I") ∈ lw_all := lw_g (lw_at lw_m1 85 rfl) rfl
theorem q140 : (Jvm.Cond.fieldLink "HutForShow$Wood" (33 : Nat) "HutForShow$Wood" "acts" "[LHutForShow$Act;") ∈ lw_all := lw_g (lw_at lw_m1 87 rfl) rfl
theorem q141 : (Jvm.Cond.fieldLink "HutForShow$Wood" (37 : Nat) "HutForShow$Wood" "at" "[I") ∈ lw_all := lw_g (lw_at lw_m1 88 rfl) rfl
theorem q145 : (Jvm.Cond.fieldLink "HutForShow$Wood" (3 : Nat) "HutForShow$Wood" "this$0" "LHutForShow;") ∈ lw_all := lw_g (lw_at lw_m1 92 rfl) rfl
theorem q146 : (Jvm.Cond.lays "HutForShow$Wood" "HutForShow$Wood" "hour" "I") ∈ lw_all := lw_g (lw_at lw_m1 93 rfl) rfl
theorem q147 : (Jvm.Cond.soleField "HutForShow$Wood" "hour") ∈ lw_all := lw_g (lw_at lw_m1 94 rfl) rfl
theorem q148 : (Jvm.Cond.laysFinal "HutForShow$Wood" "HutForShow$Wood" "sticks" "[I") ∈ lw_all := lw_g (lw_at lw_m1 95 rfl) rfl
theorem q149 : (Jvm.Cond.soleField "HutForShow$Wood" "sticks") ∈ lw_all := lw_g (lw_at lw_m1 96 rfl) rfl
theorem q150 : (Jvm.Cond.laysFinal "HutForShow$Wood" "HutForShow$Wood" "hunger" "[I") ∈ lw_all := lw_g (lw_at lw_m1 97 rfl) rfl
theorem q151 : (Jvm.Cond.soleField "HutForShow$Wood" "hunger") ∈ lw_all := lw_g (lw_at lw_m1 98 rfl) rfl
theorem q152 : (Jvm.Cond.laysFinal "HutForShow$Wood" "HutForShow$Wood" "taken" "[I") ∈ lw_all := lw_g (lw_at lw_m1 99 rfl) rfl
theorem q153 : (Jvm.Cond.soleField "HutForShow$Wood" "taken") ∈ lw_all := lw_g (lw_at lw_m1 100 rfl) rfl
theorem q154 : (Jvm.Cond.laysFinal "HutForShow$Wood" "HutForShow$Wood" "takenThen" "[I") ∈ lw_all := lw_g (lw_at lw_m1 101 rfl) rfl
theorem q155 : (Jvm.Cond.soleField "HutForShow$Wood" "takenThen") ∈ lw_all := lw_g (lw_at lw_m1 102 rfl) rfl
theorem q156 : (Jvm.Cond.laysFinal "HutForShow$Wood" "HutForShow$Wood" "codes" "[I") ∈ lw_all := lw_g (lw_at lw_m1 103 rfl) rfl
theorem q157 : (Jvm.Cond.soleField "HutForShow$Wood" "codes") ∈ lw_all := lw_g (lw_at lw_m1 104 rfl) rfl
theorem q158 : (Jvm.Cond.laysFinal "HutForShow$Wood" "HutForShow$Wood" "acts" "[LHutForShow$Act;") ∈ lw_all := lw_g (lw_at lw_m1 105 rfl) rfl
theorem q159 : (Jvm.Cond.soleField "HutForShow$Wood" "acts") ∈ lw_all := lw_g (lw_at lw_m1 106 rfl) rfl
theorem q160 : (Jvm.Cond.laysFinal "HutForShow$Wood" "HutForShow$Wood" "at" "[I") ∈ lw_all := lw_g (lw_at lw_m1 107 rfl) rfl
theorem q161 : (Jvm.Cond.soleField "HutForShow$Wood" "at") ∈ lw_all := lw_g (lw_at lw_m1 108 rfl) rfl
theorem q162 : (Jvm.Cond.laysFinal "HutForShow$Wood" "HutForShow$Wood" "this$0" "LHutForShow;") ∈ lw_all := lw_g (lw_at lw_m1 109 rfl) rfl
theorem q163 : (Jvm.Cond.soleField "HutForShow$Wood" "this$0") ∈ lw_all := lw_g (lw_at lw_m1 110 rfl) rfl
theorem q164 : (Jvm.Cond.superclass "HutForShow$Wood" "java/lang/Object") ∈ lw_all := lw_g (lw_at lw_m1 111 rfl) rfl
theorem q196 : (Jvm.Cond.fieldLinkNest "HutForShow$Wood" (70 : Nat) "HutForShow" "guard" "LHutForShow$Act;" "HutForShow") ∈ lw_tbl := lw_at lw_m1 143 rfl
theorem q199 : (Jvm.Cond.fieldLinkNest "HutForShow$Wood" (62 : Nat) "HutForShow" "feed" "LHutForShow$Act;" "HutForShow") ∈ lw_tbl := lw_at lw_m1 146 rfl
theorem q202 : (Jvm.Cond.fieldLinkNest "HutForShow$Wood" (82 : Nat) "HutForShow" "huts" "[LHutForShow$Place;" "HutForShow") ∈ lw_tbl := lw_at lw_m1 149 rfl
theorem q204 : (Jvm.Cond.fieldLinkNest "HutForShow$Wood" (79 : Nat) "HutForShow" "hutMany" "I" "HutForShow") ∈ lw_tbl := lw_at lw_m1 151 rfl
theorem q206 : (Jvm.Cond.fieldLinkNest "HutForShow$Wood" (53 : Nat) "HutForShow" "things" "[LHutForShow$Thing;" "HutForShow") ∈ lw_tbl := lw_at lw_m1 153 rfl
theorem q208 : (Jvm.Cond.fieldLinkNest "HutForShow$Wood" (50 : Nat) "HutForShow" "thingMany" "I" "HutForShow") ∈ lw_tbl := lw_at lw_m1 155 rfl
theorem q212 : (Jvm.Cond.fieldLinkNest "HutForShow$Wood" (92 : Nat) "HutForShow" "settings" "[I" "HutForShow") ∈ lw_tbl := lw_at lw_m1 159 rfl
theorem q216 : (Jvm.Cond.fieldLinkNest "HutForShow$Wood" (66 : Nat) "HutForShow" "habits" "[LHutForShow$Habit;" "HutForShow") ∈ lw_tbl := lw_at lw_m1 163 rfl
theorem q357 : (Jvm.Cond.instanceMethod ({ cls := "HutForShow$Wood", name := "many", desc := "(I)I" } : Jvm.MethodName)) ∈ lw_all := lw_g (lw_at lw_m2 64 rfl) rfl
theorem q358 : (Jvm.Cond.selects "HutForShow$Wood" ({ cls := "HutForShow$Wood", name := "many", desc := "(I)I" } : Jvm.MethodName) ({ cls := "HutForShow$Wood", name := "many", desc := "(I)I" } : Jvm.MethodName)) ∈ lw_all := lw_g (lw_at lw_m2 65 rfl) rfl
theorem q359 : (Jvm.Cond.code ({ cls := "HutForShow$Wood", name := "many", desc := "(I)I" } : Jvm.MethodName) prog_18_method_3_code (4 : Nat) (Option.some Jvm.ClassFile.FieldType.int)) ∈ lw_all := lw_g (lw_at lw_m2 66 rfl) rfl
theorem q366 : (Jvm.Cond.fieldLinkNest "HutForShow$Wood" (57 : Nat) "HutForShow$Thing" "colour" "I" "HutForShow") ∈ lw_tbl := lw_at lw_m2 73 rfl
theorem q394 : (Jvm.Cond.instanceMethod ({ cls := "HutForShow$Wood", name := "blue", desc := "(I)I" } : Jvm.MethodName)) ∈ lw_all := lw_g (lw_at lw_m2 101 rfl) rfl
theorem q395 : (Jvm.Cond.selects "HutForShow$Wood" ({ cls := "HutForShow$Wood", name := "blue", desc := "(I)I" } : Jvm.MethodName) ({ cls := "HutForShow$Wood", name := "blue", desc := "(I)I" } : Jvm.MethodName)) ∈ lw_all := lw_g (lw_at lw_m2 102 rfl) rfl
theorem q396 : (Jvm.Cond.code ({ cls := "HutForShow$Wood", name := "blue", desc := "(I)I" } : Jvm.MethodName) prog_18_method_4_code (4 : Nat) (Option.some Jvm.ClassFile.FieldType.int)) ∈ lw_all := lw_g (lw_at lw_m2 103 rfl) rfl
theorem q411 : (Jvm.Cond.instanceMethod ({ cls := "HutForShow$Wood", name := "step", desc := "(Z)V" } : Jvm.MethodName)) ∈ lw_all := lw_g (lw_at lw_m2 118 rfl) rfl
theorem q412 : (Jvm.Cond.selects "HutForShow$Wood" ({ cls := "HutForShow$Wood", name := "step", desc := "(Z)V" } : Jvm.MethodName) ({ cls := "HutForShow$Wood", name := "step", desc := "(Z)V" } : Jvm.MethodName)) ∈ lw_all := lw_g (lw_at lw_m2 119 rfl) rfl
theorem q413 : (Jvm.Cond.code ({ cls := "HutForShow$Wood", name := "step", desc := "(Z)V" } : Jvm.MethodName) prog_18_method_8_code (4 : Nat) (Option.none : Option Jvm.ClassFile.FieldType)) ∈ lw_all := lw_g (lw_at lw_m2 120 rfl) rfl
theorem q414 : (Jvm.Cond.methodLink "HutForShow$Wood" (113 : Nat) ({ cls := "HutForShow$Wood", name := "actOf", desc := "(I)LHutForShow$Act;" } : Jvm.MethodName)) ∈ lw_all := lw_g (lw_at lw_m2 121 rfl) rfl
theorem q415 : (Jvm.Cond.instanceMethod ({ cls := "HutForShow$Wood", name := "actOf", desc := "(I)LHutForShow$Act;" } : Jvm.MethodName)) ∈ lw_all := lw_g (lw_at lw_m2 122 rfl) rfl
theorem q416 : (Jvm.Cond.selects "HutForShow$Wood" ({ cls := "HutForShow$Wood", name := "actOf", desc := "(I)LHutForShow$Act;" } : Jvm.MethodName) ({ cls := "HutForShow$Wood", name := "actOf", desc := "(I)LHutForShow$Act;" } : Jvm.MethodName)) ∈ lw_all := lw_g (lw_at lw_m2 123 rfl) rfl
theorem q417 : (Jvm.Cond.code ({ cls := "HutForShow$Wood", name := "actOf", desc := "(I)LHutForShow$Act;" } : Jvm.MethodName) prog_18_method_6_code (2 : Nat) (Option.some (Jvm.ClassFile.FieldType.object "HutForShow$Act"))) ∈ lw_all := lw_g (lw_at lw_m2 124 rfl) rfl
theorem q418 : (Jvm.Cond.methodLink "HutForShow$Wood" (73 : Nat) ({ cls := "HutForShow$Habit", name := "act", desc := "(LHutForShow$Wood;I)LHutForShow$Act;" } : Jvm.MethodName)) ∈ lw_all := lw_g (lw_at lw_m2 125 rfl) rfl
theorem q433 : (Jvm.Cond.methodLink "HutForShow$Wood" (117 : Nat) ({ cls := "HutForShow$Act", name := "code", desc := "()I" } : Jvm.MethodName)) ∈ lw_all := lw_g (lw_at lw_m2 140 rfl) rfl
theorem q451 : (Jvm.Cond.methodLink "HutForShow$Wood" (121 : Nat) ({ cls := "HutForShow$Act", name := "run", desc := "(LHutForShow$Wood;I)V" } : Jvm.MethodName)) ∈ lw_all := lw_g (lw_at lw_m2 158 rfl) rfl
theorem q464 : (Jvm.Cond.instanceMethod ({ cls := "HutForShow$Wood", name := "leastIn", desc := "(I)I" } : Jvm.MethodName)) ∈ lw_all := lw_g (lw_at lw_m2 171 rfl) rfl
theorem q465 : (Jvm.Cond.selects "HutForShow$Wood" ({ cls := "HutForShow$Wood", name := "leastIn", desc := "(I)I" } : Jvm.MethodName) ({ cls := "HutForShow$Wood", name := "leastIn", desc := "(I)I" } : Jvm.MethodName)) ∈ lw_all := lw_g (lw_at lw_m2 172 rfl) rfl
theorem q466 : (Jvm.Cond.code ({ cls := "HutForShow$Wood", name := "leastIn", desc := "(I)I" } : Jvm.MethodName) prog_18_method_5_code (3 : Nat) (Option.some Jvm.ClassFile.FieldType.int)) ∈ lw_all := lw_g (lw_at lw_m2 173 rfl) rfl
theorem q481 : (Jvm.Cond.instanceMethod ({ cls := "HutForShow$Wood", name := "raid", desc := "(II)V" } : Jvm.MethodName)) ∈ lw_all := lw_g (lw_at lw_m2 188 rfl) rfl
theorem q482 : (Jvm.Cond.selects "HutForShow$Wood" ({ cls := "HutForShow$Wood", name := "raid", desc := "(II)V" } : Jvm.MethodName) ({ cls := "HutForShow$Wood", name := "raid", desc := "(II)V" } : Jvm.MethodName)) ∈ lw_all := lw_g (lw_at lw_m2 189 rfl) rfl
theorem q483 : (Jvm.Cond.code ({ cls := "HutForShow$Wood", name := "raid", desc := "(II)V" } : Jvm.MethodName) prog_18_method_7_code (5 : Nat) (Option.none : Option Jvm.ClassFile.FieldType)) ∈ lw_all := lw_g (lw_at lw_m2 190 rfl) rfl
theorem q484 : (Jvm.Cond.methodLink "HutForShow$Wood" (86 : Nat) ({ cls := "HutForShow$Place", name := "far", desc := "(LHutForShow$Place;)I" } : Jvm.MethodName)) ∈ lw_all := lw_g (lw_at lw_m2 191 rfl) rfl
theorem q485 : (Jvm.Cond.methodLink "HutForShow$Wood" (95 : Nat) ({ cls := "HutForShow$Act", name := "isAway", desc := "()Z" } : Jvm.MethodName)) ∈ lw_all := lw_g (lw_at lw_m2 192 rfl) rfl
theorem q496 : (Jvm.Cond.methodLink "HutForShow$Wood" (99 : Nat) ({ cls := "java/lang/Math", name := "max", desc := "(II)I" } : Jvm.MethodName)) ∈ lw_all := lw_g (lw_at lw_m2 203 rfl) rfl
theorem q497 : (Jvm.Cond.methodLink "HutForShow$Wood" (105 : Nat) ({ cls := "HutForShow$Thing", name := "isDearer", desc := "(LHutForShow$Thing;)Z" } : Jvm.MethodName)) ∈ lw_all := lw_g (lw_at lw_m2 204 rfl) rfl
theorem q501 : (Jvm.Cond.methodLink "HutForShow$Wood" (109 : Nat) ({ cls := "HutForShow$Wood", name := "many", desc := "(I)I" } : Jvm.MethodName)) ∈ lw_all := lw_g (lw_at lw_m2 208 rfl) rfl
theorem q502 : (Jvm.Cond.methodLink "HutForShow$Wood" (125 : Nat) ({ cls := "java/lang/Math", name := "min", desc := "(II)I" } : Jvm.MethodName)) ∈ lw_all := lw_g (lw_at lw_m2 209 rfl) rfl
theorem q858 : (Jvm.Cond.instanceMethod ({ cls := "HutForShow$Wood", name := "copy", desc := "(LHutForShow$Wood;)V" } : Jvm.MethodName)) ∈ lw_all := lw_g (lw_at lw_m4 85 rfl) rfl
theorem q859 : (Jvm.Cond.selects "HutForShow$Wood" ({ cls := "HutForShow$Wood", name := "copy", desc := "(LHutForShow$Wood;)V" } : Jvm.MethodName) ({ cls := "HutForShow$Wood", name := "copy", desc := "(LHutForShow$Wood;)V" } : Jvm.MethodName)) ∈ lw_all := lw_g (lw_at lw_m4 86 rfl) rfl
theorem q860 : (Jvm.Cond.code ({ cls := "HutForShow$Wood", name := "copy", desc := "(LHutForShow$Wood;)V" } : Jvm.MethodName) prog_18_method_2_code (3 : Nat) (Option.none : Option Jvm.ClassFile.FieldType)) ∈ lw_all := lw_g (lw_at lw_m4 87 rfl) rfl
theorem q861 : (Jvm.Cond.methodLink "HutForShow$Wood" (44 : Nat) ({ cls := "java/lang/System", name := "arraycopy", desc := "(Ljava/lang/Object;ILjava/lang/Object;II)V" } : Jvm.MethodName)) ∈ lw_all := lw_g (lw_at lw_m4 88 rfl) rfl
theorem q869 : (Jvm.Cond.instanceMethod ({ cls := "HutForShow$Wood", name := "allSticks", desc := "()I" } : Jvm.MethodName)) ∈ lw_all := lw_g (lw_at lw_m4 96 rfl) rfl
theorem q870 : (Jvm.Cond.selects "HutForShow$Wood" ({ cls := "HutForShow$Wood", name := "allSticks", desc := "()I" } : Jvm.MethodName) ({ cls := "HutForShow$Wood", name := "allSticks", desc := "()I" } : Jvm.MethodName)) ∈ lw_all := lw_g (lw_at lw_m4 97 rfl) rfl
theorem q871 : (Jvm.Cond.code ({ cls := "HutForShow$Wood", name := "allSticks", desc := "()I" } : Jvm.MethodName) prog_18_method_9_code (3 : Nat) (Option.some Jvm.ClassFile.FieldType.int)) ∈ lw_all := lw_g (lw_at lw_m4 98 rfl) rfl
theorem in_X5 : ∀ w ∈ wsX50, w ∈ lw_all := lw_in wsX50 [146, 148, 150, 152, 154, 156, 158, 160, 162] (by decide +kernel) (by decide +kernel)
/-! HutForShow$Reader -/
def RX6 : String := "HutForShow$Reader"
def TX6 : u_T := fun k => match k with
  | 0 => ("HutForShow$Reader", "at", "I", false)
  | 1 => ("HutForShow$Reader", "place", "I", false)
  | 2 => ("HutForShow$Reader", "end", "I", false)
  | _ => ("HutForShow$Reader", "this$0", "LHutForShow;", true)
def tyX6 : Nat → FieldType := fun k => match k with
  | 0 => .int
  | 1 => .int
  | 2 => .int
  | _ => .object "HutForShow"
abbrev wsX60 : List Cond := u_ws RX6 TX6 4
theorem nmX6 : ∀ a, a < 4 → ∀ b, b < 4 → a ≠ b → (TX6 a).2.1 ≠ (TX6 b).2.1 := by decide +kernel
theorem tyX6_ok : ∀ k, k < 4 → parseFieldDescriptor (TX6 k).2.2.1 = some (tyX6 k) := by decide +kernel
abbrev cX6_init : ByteArray := prog_13_method_1_code
def yX6_init : MethodName := ⟨RX6, "<init>", "(LHutForShow;)V"⟩
abbrev cX6_read : ByteArray := prog_13_method_10_code
def yX6_read : MethodName := ⟨RX6, "read", "(LHutForShow$Told;)V"⟩
abbrev cX6_token : ByteArray := prog_13_method_3_code
def yX6_token : MethodName := ⟨RX6, "token", "()V"⟩
abbrev cX6_kindAt : ByteArray := prog_13_method_2_code
def yX6_kindAt : MethodName := ⟨RX6, "kindAt", "(I)I"⟩
abbrev cX6_act : ByteArray := prog_13_method_8_code
def yX6_act : MethodName := ⟨RX6, "act", "()LHutForShow$Act;"⟩
abbrev cX6_skips : ByteArray := prog_13_method_5_code
def yX6_skips : MethodName := ⟨RX6, "skips", "(Ljava/lang/String;)Z"⟩
abbrev cX6_isWord : ByteArray := prog_13_method_4_code
def yX6_isWord : MethodName := ⟨RX6, "isWord", "(Ljava/lang/String;)Z"⟩
abbrev cX6_need : ByteArray := prog_13_method_6_code
def yX6_need : MethodName := ⟨RX6, "need", "(Z)V"⟩
abbrev cX6_number : ByteArray := prog_13_method_7_code
def yX6_number : MethodName := ⟨RX6, "number", "(I)I"⟩
abbrev cX6_test : ByteArray := prog_13_method_9_code
def yX6_test : MethodName := ⟨RX6, "test", "()LHutForShow$Test;"⟩
theorem q60 : (Jvm.Cond.initialized "HutForShow$Reader") ∈ lw_all := lw_g (lw_at lw_m1 7 rfl) rfl
theorem q171 : (Jvm.Cond.instantiable "HutForShow$Reader" (4 : Nat)) ∈ lw_all := lw_g (lw_at lw_m1 118 rfl) rfl
theorem q173 : (Jvm.Cond.instanceMethod ({ cls := "HutForShow$Reader", name := "<init>", desc := "(LHutForShow;)V" } : Jvm.MethodName)) ∈ lw_all := lw_g (lw_at lw_m1 120 rfl) rfl
theorem q174 : (Jvm.Cond.code ({ cls := "HutForShow$Reader", name := "<init>", desc := "(LHutForShow;)V" } : Jvm.MethodName) prog_13_method_1_code (2 : Nat) (Option.none : Option Jvm.ClassFile.FieldType)) ∈ lw_all := lw_g (lw_at lw_m1 121 rfl) rfl
theorem q175 : (Jvm.Cond.methodLink "HutForShow$Reader" (9 : Nat) ({ cls := "java/lang/Object", name := "<init>", desc := "()V" } : Jvm.MethodName)) ∈ lw_all := lw_g (lw_at lw_m1 122 rfl) rfl
theorem q176 : (Jvm.Cond.fieldLink "HutForShow$Reader" (31 : Nat) "HutForShow$Reader" "at" "I") ∈ lw_all := lw_g (lw_at lw_m1 123 rfl) rfl
theorem q177 : (Jvm.Cond.fieldLink "HutForShow$Reader" (38 : Nat) "HutForShow$Reader" "place" "I") ∈ lw_all := lw_g (lw_at lw_m1 124 rfl) rfl
theorem q178 : (Jvm.Cond.fieldLink "HutForShow$Reader" (45 : Nat) "HutForShow$Reader" "end" "I") ∈ lw_all := lw_g (lw_at lw_m1 125 rfl) rfl
theorem q179 : (Jvm.Cond.fieldLink "HutForShow$Reader" (3 : Nat) "HutForShow$Reader" "this$0" "LHutForShow;") ∈ lw_all := lw_g (lw_at lw_m1 126 rfl) rfl
theorem q180 : (Jvm.Cond.lays "HutForShow$Reader" "HutForShow$Reader" "at" "I") ∈ lw_all := lw_g (lw_at lw_m1 127 rfl) rfl
theorem q181 : (Jvm.Cond.soleField "HutForShow$Reader" "at") ∈ lw_all := lw_g (lw_at lw_m1 128 rfl) rfl
theorem q182 : (Jvm.Cond.lays "HutForShow$Reader" "HutForShow$Reader" "place" "I") ∈ lw_all := lw_g (lw_at lw_m1 129 rfl) rfl
theorem q183 : (Jvm.Cond.soleField "HutForShow$Reader" "place") ∈ lw_all := lw_g (lw_at lw_m1 130 rfl) rfl
theorem q184 : (Jvm.Cond.lays "HutForShow$Reader" "HutForShow$Reader" "end" "I") ∈ lw_all := lw_g (lw_at lw_m1 131 rfl) rfl
theorem q185 : (Jvm.Cond.soleField "HutForShow$Reader" "end") ∈ lw_all := lw_g (lw_at lw_m1 132 rfl) rfl
theorem q186 : (Jvm.Cond.laysFinal "HutForShow$Reader" "HutForShow$Reader" "this$0" "LHutForShow;") ∈ lw_all := lw_g (lw_at lw_m1 133 rfl) rfl
theorem q187 : (Jvm.Cond.soleField "HutForShow$Reader" "this$0") ∈ lw_all := lw_g (lw_at lw_m1 134 rfl) rfl
theorem q188 : (Jvm.Cond.superclass "HutForShow$Reader" "java/lang/Object") ∈ lw_all := lw_g (lw_at lw_m1 135 rfl) rfl
theorem q197 : (Jvm.Cond.fieldLinkNest "HutForShow$Reader" (93 : Nat) "HutForShow" "guard" "LHutForShow$Act;" "HutForShow") ∈ lw_tbl := lw_at lw_m1 144 rfl
theorem q200 : (Jvm.Cond.fieldLinkNest "HutForShow$Reader" (88 : Nat) "HutForShow" "feed" "LHutForShow$Act;" "HutForShow") ∈ lw_tbl := lw_at lw_m1 147 rfl
theorem q218 : (Jvm.Cond.fieldLinkNest "HutForShow$Reader" (15 : Nat) "HutForShow" "tape" "[B" "HutForShow") ∈ lw_tbl := lw_at lw_m1 165 rfl
theorem q220 : (Jvm.Cond.fieldLinkNest "HutForShow$Reader" (35 : Nat) "HutForShow" "length" "I" "HutForShow") ∈ lw_tbl := lw_at lw_m1 167 rfl
theorem q534 : (Jvm.Cond.fieldLink "HutForShow$Reader" (122 : Nat) "HutForShow$Told" "many" "I") ∈ lw_all := lw_g (lw_at lw_m3 1 rfl) rfl
theorem q558 : (Jvm.Cond.instanceMethod ({ cls := "HutForShow$Reader", name := "read", desc := "(LHutForShow$Told;)V" } : Jvm.MethodName)) ∈ lw_all := lw_g (lw_at lw_m3 25 rfl) rfl
theorem q559 : (Jvm.Cond.selects "HutForShow$Reader" ({ cls := "HutForShow$Reader", name := "read", desc := "(LHutForShow$Told;)V" } : Jvm.MethodName) ({ cls := "HutForShow$Reader", name := "read", desc := "(LHutForShow$Told;)V" } : Jvm.MethodName)) ∈ lw_all := lw_g (lw_at lw_m3 26 rfl) rfl
theorem q560 : (Jvm.Cond.code ({ cls := "HutForShow$Reader", name := "read", desc := "(LHutForShow$Told;)V" } : Jvm.MethodName) prog_13_method_10_code (2 : Nat) (Option.none : Option Jvm.ClassFile.FieldType)) ∈ lw_all := lw_g (lw_at lw_m3 27 rfl) rfl
theorem q561 : (Jvm.Cond.methodLink "HutForShow$Reader" (61 : Nat) ({ cls := "HutForShow$Reader", name := "token", desc := "()V" } : Jvm.MethodName)) ∈ lw_all := lw_g (lw_at lw_m3 28 rfl) rfl
theorem q562 : (Jvm.Cond.privateMethod ({ cls := "HutForShow$Reader", name := "token", desc := "()V" } : Jvm.MethodName)) ∈ lw_tbl := lw_at lw_m3 29 rfl
theorem q563 : (Jvm.Cond.instanceMethod ({ cls := "HutForShow$Reader", name := "token", desc := "()V" } : Jvm.MethodName)) ∈ lw_all := lw_g (lw_at lw_m3 30 rfl) rfl
theorem q564 : (Jvm.Cond.code ({ cls := "HutForShow$Reader", name := "token", desc := "()V" } : Jvm.MethodName) prog_13_method_3_code (1 : Nat) (Option.none : Option Jvm.ClassFile.FieldType)) ∈ lw_all := lw_g (lw_at lw_m3 31 rfl) rfl
theorem q565 : (Jvm.Cond.methodLink "HutForShow$Reader" (41 : Nat) ({ cls := "HutForShow$Reader", name := "kindAt", desc := "(I)I" } : Jvm.MethodName)) ∈ lw_all := lw_g (lw_at lw_m3 32 rfl) rfl
theorem q566 : (Jvm.Cond.privateMethod ({ cls := "HutForShow$Reader", name := "kindAt", desc := "(I)I" } : Jvm.MethodName)) ∈ lw_tbl := lw_at lw_m3 33 rfl
theorem q567 : (Jvm.Cond.instanceMethod ({ cls := "HutForShow$Reader", name := "kindAt", desc := "(I)I" } : Jvm.MethodName)) ∈ lw_all := lw_g (lw_at lw_m3 34 rfl) rfl
theorem q568 : (Jvm.Cond.code ({ cls := "HutForShow$Reader", name := "kindAt", desc := "(I)I" } : Jvm.MethodName) prog_13_method_2_code (2 : Nat) (Option.some Jvm.ClassFile.FieldType.int)) ∈ lw_all := lw_g (lw_at lw_m3 35 rfl) rfl
theorem q569 : (Jvm.Cond.constantLong "HutForShow$Reader" (19 : Nat) (97 : Int64)) ∈ lw_all := lw_g (lw_at lw_m3 36 rfl) rfl
theorem q570 : (Jvm.Cond.constantLong "HutForShow$Reader" (21 : Nat) (122 : Int64)) ∈ lw_all := lw_g (lw_at lw_m3 37 rfl) rfl
theorem q571 : (Jvm.Cond.methodLinkNest "HutForShow$Reader" (23 : Nat) ({ cls := "HutForShow", name := "isIn", desc := "(JJJ)Z" } : Jvm.MethodName) "HutForShow") ∈ lw_tbl := lw_at lw_m3 38 rfl
theorem q572 : (Jvm.Cond.constantLong "HutForShow$Reader" (27 : Nat) (48 : Int64)) ∈ lw_all := lw_g (lw_at lw_m3 39 rfl) rfl
theorem q573 : (Jvm.Cond.constantLong "HutForShow$Reader" (29 : Nat) (57 : Int64)) ∈ lw_all := lw_g (lw_at lw_m3 40 rfl) rfl
theorem q574 : (Jvm.Cond.methodLink "HutForShow$Reader" (116 : Nat) ({ cls := "HutForShow$Told", name := "line", desc := "(LHutForShow$Reader;)V" } : Jvm.MethodName)) ∈ lw_all := lw_g (lw_at lw_m3 41 rfl) rfl
theorem q581 : (Jvm.Cond.instanceMethod ({ cls := "HutForShow$Reader", name := "act", desc := "()LHutForShow$Act;" } : Jvm.MethodName)) ∈ lw_all := lw_g (lw_at lw_m3 48 rfl) rfl
theorem q582 : (Jvm.Cond.selects "HutForShow$Reader" ({ cls := "HutForShow$Reader", name := "act", desc := "()LHutForShow$Act;" } : Jvm.MethodName) ({ cls := "HutForShow$Reader", name := "act", desc := "()LHutForShow$Act;" } : Jvm.MethodName)) ∈ lw_all := lw_g (lw_at lw_m3 49 rfl) rfl
theorem q583 : (Jvm.Cond.code ({ cls := "HutForShow$Reader", name := "act", desc := "()LHutForShow$Act;" } : Jvm.MethodName) prog_13_method_8_code (1 : Nat) (Option.some (Jvm.ClassFile.FieldType.object "HutForShow$Act"))) ∈ lw_all := lw_g (lw_at lw_m3 50 rfl) rfl
theorem q584 : (Jvm.Cond.stringRef "HutForShow$Reader" (73 : Nat) "mend") ∈ lw_tbl := lw_at lw_m3 51 rfl
theorem q585 : (Jvm.Cond.methodLink "HutForShow$Reader" (75 : Nat) ({ cls := "HutForShow$Reader", name := "skips", desc := "(Ljava/lang/String;)Z" } : Jvm.MethodName)) ∈ lw_all := lw_g (lw_at lw_m3 52 rfl) rfl
theorem q586 : (Jvm.Cond.instanceMethod ({ cls := "HutForShow$Reader", name := "skips", desc := "(Ljava/lang/String;)Z" } : Jvm.MethodName)) ∈ lw_all := lw_g (lw_at lw_m3 53 rfl) rfl
theorem q587 : (Jvm.Cond.selects "HutForShow$Reader" ({ cls := "HutForShow$Reader", name := "skips", desc := "(Ljava/lang/String;)Z" } : Jvm.MethodName) ({ cls := "HutForShow$Reader", name := "skips", desc := "(Ljava/lang/String;)Z" } : Jvm.MethodName)) ∈ lw_all := lw_g (lw_at lw_m3 54 rfl) rfl
theorem q588 : (Jvm.Cond.code ({ cls := "HutForShow$Reader", name := "skips", desc := "(Ljava/lang/String;)Z" } : Jvm.MethodName) prog_13_method_5_code (3 : Nat) (Option.some Jvm.ClassFile.FieldType.boolean)) ∈ lw_all := lw_g (lw_at lw_m3 55 rfl) rfl
theorem q589 : (Jvm.Cond.methodLink "HutForShow$Reader" (57 : Nat) ({ cls := "HutForShow$Reader", name := "isWord", desc := "(Ljava/lang/String;)Z" } : Jvm.MethodName)) ∈ lw_all := lw_g (lw_at lw_m3 56 rfl) rfl
theorem q590 : (Jvm.Cond.privateMethod ({ cls := "HutForShow$Reader", name := "isWord", desc := "(Ljava/lang/String;)Z" } : Jvm.MethodName)) ∈ lw_tbl := lw_at lw_m3 57 rfl
theorem q591 : (Jvm.Cond.instanceMethod ({ cls := "HutForShow$Reader", name := "isWord", desc := "(Ljava/lang/String;)Z" } : Jvm.MethodName)) ∈ lw_all := lw_g (lw_at lw_m3 58 rfl) rfl
theorem q592 : (Jvm.Cond.code ({ cls := "HutForShow$Reader", name := "isWord", desc := "(Ljava/lang/String;)Z" } : Jvm.MethodName) prog_13_method_4_code (4 : Nat) (Option.some Jvm.ClassFile.FieldType.boolean)) ∈ lw_all := lw_g (lw_at lw_m3 59 rfl) rfl
theorem q593 : (Jvm.Cond.methodLink "HutForShow$Reader" (48 : Nat) ({ cls := "java/lang/String", name := "length", desc := "()I" } : Jvm.MethodName)) ∈ lw_all := lw_g (lw_at lw_m3 60 rfl) rfl
theorem q603 : (Jvm.Cond.methodLink "HutForShow$Reader" (53 : Nat) ({ cls := "java/lang/String", name := "charAt", desc := "(I)C" } : Jvm.MethodName)) ∈ lw_all := lw_g (lw_at lw_m3 70 rfl) rfl
theorem q641 : (Jvm.Cond.classLink "HutForShow$Reader" (78 : Nat) "HutForShow$Mend") ∈ lw_all := lw_g (lw_at lw_m3 108 rfl) rfl
theorem q643 : (Jvm.Cond.methodLinkNest "HutForShow$Reader" (80 : Nat) ({ cls := "HutForShow$Mend", name := "<init>", desc := "()V" } : Jvm.MethodName) "HutForShow") ∈ lw_tbl := lw_at lw_m3 110 rfl
theorem q648 : (Jvm.Cond.stringRef "HutForShow$Reader" (81 : Nat) "find") ∈ lw_tbl := lw_at lw_m3 115 rfl
theorem q649 : (Jvm.Cond.classLink "HutForShow$Reader" (83 : Nat) "HutForShow$Find") ∈ lw_all := lw_g (lw_at lw_m3 116 rfl) rfl
theorem q651 : (Jvm.Cond.methodLinkNest "HutForShow$Reader" (85 : Nat) ({ cls := "HutForShow$Find", name := "<init>", desc := "()V" } : Jvm.MethodName) "HutForShow") ∈ lw_tbl := lw_at lw_m3 118 rfl
theorem q656 : (Jvm.Cond.stringRef "HutForShow$Reader" (86 : Nat) "feed") ∈ lw_tbl := lw_at lw_m3 123 rfl
theorem q657 : (Jvm.Cond.stringRef "HutForShow$Reader" (91 : Nat) "guard") ∈ lw_tbl := lw_at lw_m3 124 rfl
theorem q658 : (Jvm.Cond.stringRef "HutForShow$Reader" (95 : Nat) "raid") ∈ lw_tbl := lw_at lw_m3 125 rfl
theorem q659 : (Jvm.Cond.methodLink "HutForShow$Reader" (69 : Nat) ({ cls := "HutForShow$Reader", name := "need", desc := "(Z)V" } : Jvm.MethodName)) ∈ lw_all := lw_g (lw_at lw_m3 126 rfl) rfl
theorem q660 : (Jvm.Cond.instanceMethod ({ cls := "HutForShow$Reader", name := "need", desc := "(Z)V" } : Jvm.MethodName)) ∈ lw_all := lw_g (lw_at lw_m3 127 rfl) rfl
theorem q661 : (Jvm.Cond.selects "HutForShow$Reader" ({ cls := "HutForShow$Reader", name := "need", desc := "(Z)V" } : Jvm.MethodName) ({ cls := "HutForShow$Reader", name := "need", desc := "(Z)V" } : Jvm.MethodName)) ∈ lw_all := lw_g (lw_at lw_m3 128 rfl) rfl
theorem q662 : (Jvm.Cond.code ({ cls := "HutForShow$Reader", name := "need", desc := "(Z)V" } : Jvm.MethodName) prog_13_method_6_code (2 : Nat) (Option.none : Option Jvm.ClassFile.FieldType)) ∈ lw_all := lw_g (lw_at lw_m3 129 rfl) rfl
theorem q663 : (Jvm.Cond.classLink "HutForShow$Reader" (64 : Nat) "HutForShow$Fault") ∈ lw_all := lw_g (lw_at lw_m3 130 rfl) rfl
theorem q700 : (Jvm.Cond.methodLink "HutForShow$Reader" (66 : Nat) ({ cls := "HutForShow$Fault", name := "<init>", desc := "(I)V" } : Jvm.MethodName)) ∈ lw_all := lw_g (lw_at lw_m3 167 rfl) rfl
theorem q727 : (Jvm.Cond.classLink "HutForShow$Reader" (97 : Nat) "HutForShow$Raid") ∈ lw_all := lw_g (lw_at lw_m3 194 rfl) rfl
theorem q729 : (Jvm.Cond.methodLink "HutForShow$Reader" (99 : Nat) ({ cls := "HutForShow$Reader", name := "number", desc := "(I)I" } : Jvm.MethodName)) ∈ lw_all := lw_g (lw_at lw_m3 196 rfl) rfl
theorem q730 : (Jvm.Cond.instanceMethod ({ cls := "HutForShow$Reader", name := "number", desc := "(I)I" } : Jvm.MethodName)) ∈ lw_all := lw_g (lw_at lw_m3 197 rfl) rfl
theorem q731 : (Jvm.Cond.selects "HutForShow$Reader" ({ cls := "HutForShow$Reader", name := "number", desc := "(I)I" } : Jvm.MethodName) ({ cls := "HutForShow$Reader", name := "number", desc := "(I)I" } : Jvm.MethodName)) ∈ lw_all := lw_g (lw_at lw_m3 198 rfl) rfl
theorem q732 : (Jvm.Cond.code ({ cls := "HutForShow$Reader", name := "number", desc := "(I)I" } : Jvm.MethodName) prog_13_method_7_code (5 : Nat) (Option.some Jvm.ClassFile.FieldType.int)) ∈ lw_all := lw_g (lw_at lw_m3 199 rfl) rfl
theorem q733 : (Jvm.Cond.methodLink "HutForShow$Reader" (102 : Nat) ({ cls := "HutForShow$Raid", name := "<init>", desc := "(I)V" } : Jvm.MethodName)) ∈ lw_all := lw_g (lw_at lw_m3 200 rfl) rfl
theorem q745 : (Jvm.Cond.instanceMethod ({ cls := "HutForShow$Reader", name := "test", desc := "()LHutForShow$Test;" } : Jvm.MethodName)) ∈ lw_all := lw_g (lw_at lw_m3 212 rfl) rfl
theorem q746 : (Jvm.Cond.selects "HutForShow$Reader" ({ cls := "HutForShow$Reader", name := "test", desc := "()LHutForShow$Test;" } : Jvm.MethodName) ({ cls := "HutForShow$Reader", name := "test", desc := "()LHutForShow$Test;" } : Jvm.MethodName)) ∈ lw_all := lw_g (lw_at lw_m3 213 rfl) rfl
theorem q747 : (Jvm.Cond.code ({ cls := "HutForShow$Reader", name := "test", desc := "()LHutForShow$Test;" } : Jvm.MethodName) prog_13_method_9_code (3 : Nat) (Option.some (Jvm.ClassFile.FieldType.object "HutForShow$Test"))) ∈ lw_all := lw_g (lw_at lw_m3 214 rfl) rfl
theorem q748 : (Jvm.Cond.fieldLinkNest "HutForShow$Reader" (103 : Nat) "HutForShow" "READS" "[Ljava/lang/String;" "HutForShow") ∈ lw_tbl := lw_at lw_m3 215 rfl
theorem q750 : (Jvm.Cond.stringRef "HutForShow$Reader" (107 : Nat) "above") ∈ lw_tbl := lw_at lw_m3 217 rfl
theorem q751 : (Jvm.Cond.stringRef "HutForShow$Reader" (109 : Nat) "below") ∈ lw_tbl := lw_at lw_m3 218 rfl
theorem q752 : (Jvm.Cond.classLink "HutForShow$Reader" (111 : Nat) "HutForShow$Test") ∈ lw_all := lw_g (lw_at lw_m3 219 rfl) rfl
theorem q753 : (Jvm.Cond.methodLink "HutForShow$Reader" (113 : Nat) ({ cls := "HutForShow$Test", name := "<init>", desc := "(IZI)V" } : Jvm.MethodName)) ∈ lw_all := lw_g (lw_at lw_m3 220 rfl) rfl
theorem q779 : (Jvm.Cond.stringRef "HutForShow$Reader" (125 : Nat) ";") ∈ lw_tbl := lw_at lw_m4 6 rfl
theorem q780 : (Jvm.Cond.methodLink "HutForShow$Reader" (127 : Nat) ({ cls := "HutForShow$Told", name := "most", desc := "()I" } : Jvm.MethodName)) ∈ lw_all := lw_g (lw_at lw_m4 7 rfl) rfl
theorem in_X6 : ∀ w ∈ wsX60, w ∈ lw_all := lw_in wsX60 [180, 182, 184, 186] (by decide +kernel) (by decide +kernel)
/-! HutForShowModel -/
def RX7 : String := "HutForShowModel"
def TX7 : u_T := fun k => match k with
  | 0 => ("HutForShowModel", "hour", "I", false)
  | 1 => ("HutForShowModel", "huts", "I", false)
  | 2 => ("HutForShowModel", "hutX", "[I", true)
  | 3 => ("HutForShowModel", "hutY", "[I", true)
  | 4 => ("HutForShowModel", "state", "[I", true)
  | 5 => ("HutForShowModel", "was", "[I", true)
  | 6 => ("HutForShowModel", "acts", "[I", true)
  | 7 => ("HutForShowModel", "things", "I", false)
  | 8 => ("HutForShowModel", "place", "[I", true)
  | 9 => ("HutForShowModel", "placeWas", "[I", true)
  | 10 => ("HutForShowModel", "colour", "[I", true)
  | 11 => ("HutForShowModel", "size", "[I", true)
  | 12 => ("HutForShowModel", "mark", "[I", true)
  | 13 => ("HutForShowModel", "reach", "I", false)
  | 14 => ("HutForShowModel", "m", "I", false)
  | 15 => ("HutForShowModel", "\x72", "I", false)
  | 16 => ("HutForShowModel", "loss", "I", false)
  | 17 => ("HutForShowModel", "way", "I", false)
  | 18 => ("HutForShowModel", "bytes", "I", false)
  | 19 => ("HutForShowModel", "text", "[I", true)
  | 20 => ("HutForShowModel", "position", "I", false)
  | 21 => ("HutForShowModel", "tokenAt", "I", false)
  | 22 => ("HutForShowModel", "token", "J", false)
  | 23 => ("HutForShowModel", "digits", "I", false)
  | 24 => ("HutForShowModel", "number", "I", false)
  | 25 => ("HutForShowModel", "faultAt", "I", false)
  | 26 => ("HutForShowModel", "readMany", "I", false)
  | 27 => ("HutForShowModel", "read", "[I", true)
  | 28 => ("HutForShowModel", "habitMany", "[I", true)
  | 29 => ("HutForShowModel", "habit", "[I", true)
  | 30 => ("HutForShowModel", "tasteMany", "[I", true)
  | 31 => ("HutForShowModel", "taste", "[I", true)
  | 32 => ("HutForShowModel", "row", "[I", true)
  | 33 => ("HutForShowModel", "order", "[I", true)
  | 34 => ("HutForShowModel", "best", "[I", true)
  | 35 => ("HutForShowModel", "guests", "I", false)
  | 36 => ("HutForShowModel", "low", "[I", true)
  | 37 => ("HutForShowModel", "high", "[I", true)
  | 38 => ("HutForShowModel", "seens", "I", false)
  | 39 => ("HutForShowModel", "seenMark", "[I", true)
  | 40 => ("HutForShowModel", "seenHut", "[I", true)
  | 41 => ("HutForShowModel", "seenHour", "[I", true)
  | 42 => ("HutForShowModel", "met", "[I", true)
  | 43 => ("HutForShowModel", "choices", "I", false)
  | 44 => ("HutForShowModel", "choice", "[I", true)
  | 45 => ("HutForShowModel", "pairs", "I", false)
  | 46 => ("HutForShowModel", "pair", "[I", true)
  | 47 => ("HutForShowModel", "spots", "I", false)
  | 48 => ("HutForShowModel", "spotX", "[I", true)
  | _ => ("HutForShowModel", "spotY", "[I", true)
def tyX7 : Nat → FieldType := fun k => match k with
  | 0 => .int
  | 1 => .int
  | 2 => .array .int
  | 3 => .array .int
  | 4 => .array .int
  | 5 => .array .int
  | 6 => .array .int
  | 7 => .int
  | 8 => .array .int
  | 9 => .array .int
  | 10 => .array .int
  | 11 => .array .int
  | 12 => .array .int
  | 13 => .int
  | 14 => .int
  | 15 => .int
  | 16 => .int
  | 17 => .int
  | 18 => .int
  | 19 => .array .int
  | 20 => .int
  | 21 => .int
  | 22 => .long
  | 23 => .int
  | 24 => .int
  | 25 => .int
  | 26 => .int
  | 27 => .array .int
  | 28 => .array .int
  | 29 => .array .int
  | 30 => .array .int
  | 31 => .array .int
  | 32 => .array .int
  | 33 => .array .int
  | 34 => .array .int
  | 35 => .int
  | 36 => .array .int
  | 37 => .array .int
  | 38 => .int
  | 39 => .array .int
  | 40 => .array .int
  | 41 => .array .int
  | 42 => .array .int
  | 43 => .int
  | 44 => .array .int
  | 45 => .int
  | 46 => .array .int
  | 47 => .int
  | 48 => .array .int
  | _ => .array .int
abbrev wsX70 : List Cond := u_ws RX7 TX7 50
theorem nmX7 : ∀ a, a < 50 → ∀ b, b < 50 → a ≠ b → (TX7 a).2.1 ≠ (TX7 b).2.1 := by decide +kernel
theorem tyX7_ok : ∀ k, k < 50 → parseFieldDescriptor (TX7 k).2.2.1 = some (tyX7 k) := by decide +kernel
abbrev cX7_init : ByteArray := prog_20_method_1_code
def yX7_init : MethodName := ⟨RX7, "<init>", "()V"⟩
abbrev cX7_hut : ByteArray := prog_20_method_5_code
def yX7_hut : MethodName := ⟨RX7, "hut", "(III)I"⟩
abbrev cX7_in : ByteArray := prog_20_method_2_code
def yX7_in : MethodName := ⟨RX7, "in", "(III)Z"⟩
abbrev cX7_far : ByteArray := prog_20_method_7_code
def yX7_far : MethodName := ⟨RX7, "far", "(II)I"⟩
abbrev cX7_isHut : ByteArray := prog_20_method_4_code
def yX7_isHut : MethodName := ⟨RX7, "isHut", "(I)Z"⟩
abbrev cX7_farOf : ByteArray := prog_20_method_6_code
def yX7_farOf : MethodName := ⟨RX7, "farOf", "(II)I"⟩
abbrev cX7_much : ByteArray := prog_20_method_3_code
def yX7_much : MethodName := ⟨RX7, "much", "(I)I"⟩
abbrev cX7_thing : ByteArray := prog_20_method_10_code
def yX7_thing : MethodName := ⟨RX7, "thing", "(IIII)I"⟩
abbrev cX7_thingsOf : ByteArray := prog_20_method_8_code
def yX7_thingsOf : MethodName := ⟨RX7, "thingsOf", "(I)I"⟩
abbrev cX7_at : ByteArray := prog_20_method_11_code
def yX7_at : MethodName := ⟨RX7, "at", "(II)I"⟩
abbrev cX7_of : ByteArray := prog_20_method_12_code
def yX7_of : MethodName := ⟨RX7, "of", "(II)I"⟩
abbrev cX7_coloured : ByteArray := prog_20_method_9_code
def yX7_coloured : MethodName := ⟨RX7, "coloured", "(II)I"⟩
abbrev cX7_set : ByteArray := prog_20_method_13_code
def yX7_set : MethodName := ⟨RX7, "set", "(II)I"⟩
abbrev cX7_hours : ByteArray := prog_20_method_19_code
def yX7_hours : MethodName := ⟨RX7, "hours", "(I)I"⟩
abbrev cX7_goHour : ByteArray := prog_20_method_18_code
def yX7_goHour : MethodName := ⟨RX7, "goHour", "(IZ)V"⟩
abbrev cX7_actOf : ByteArray := prog_20_method_16_code
def yX7_actOf : MethodName := ⟨RX7, "actOf", "(II)I"⟩
abbrev cX7_doesHold : ByteArray := prog_20_method_15_code
def yX7_doesHold : MethodName := ⟨RX7, "doesHold", "(III)Z"⟩
abbrev cX7_reading : ByteArray := prog_20_method_14_code
def yX7_reading : MethodName := ⟨RX7, "reading", "(III)I"⟩
abbrev cX7_raid : ByteArray := prog_20_method_17_code
def yX7_raid : MethodName := ⟨RX7, "raid", "(II)V"⟩
abbrev cX7_write : ByteArray := prog_20_method_22_code
def yX7_write : MethodName := ⟨RX7, "write", "(JI)I"⟩
abbrev cX7_erase : ByteArray := prog_20_method_23_code
def yX7_erase : MethodName := ⟨RX7, "erase", "()I"⟩
abbrev cX7_fault : ByteArray := prog_20_method_31_code
def yX7_fault : MethodName := ⟨RX7, "fault", "(I)I"⟩
abbrev cX7_isRead : ByteArray := prog_20_method_30_code
def yX7_isRead : MethodName := ⟨RX7, "isRead", "(I)Z"⟩
abbrev cX7_isHabitLine : ByteArray := prog_20_method_28_code
def yX7_isHabitLine : MethodName := ⟨RX7, "isHabitLine", "(I)Z"⟩
abbrev cX7_nextToken : ByteArray := prog_20_method_24_code
def yX7_nextToken : MethodName := ⟨RX7, "nextToken", "()V"⟩
abbrev cX7_fails : ByteArray := prog_20_method_25_code
def yX7_fails : MethodName := ⟨RX7, "fails", "()Z"⟩
abbrev cX7_isNumber : ByteArray := prog_20_method_26_code
def yX7_isNumber : MethodName := ⟨RX7, "isNumber", "(II)Z"⟩
abbrev cX7_isTest : ByteArray := prog_20_method_27_code
def yX7_isTest : MethodName := ⟨RX7, "isTest", "(I)Z"⟩
abbrev cX7_isTasteLine : ByteArray := prog_20_method_29_code
def yX7_isTasteLine : MethodName := ⟨RX7, "isTasteLine", "(I)Z"⟩
abbrev cX7_habit : ByteArray := prog_20_method_32_code
def yX7_habit : MethodName := ⟨RX7, "habit", "(I)I"⟩
abbrev cX7_taste : ByteArray := prog_20_method_34_code
def yX7_taste : MethodName := ⟨RX7, "taste", "(I)I"⟩
abbrev cX7_isVisitor : ByteArray := prog_20_method_33_code
def yX7_isVisitor : MethodName := ⟨RX7, "isVisitor", "(I)Z"⟩
abbrev cX7_act : ByteArray := prog_20_method_35_code
def yX7_act : MethodName := ⟨RX7, "act", "(I)I"⟩
abbrev cX7_worth : ByteArray := prog_20_method_38_code
def yX7_worth : MethodName := ⟨RX7, "worth", "(II)I"⟩
abbrev cX7_worthOf : ByteArray := prog_20_method_37_code
def yX7_worthOf : MethodName := ⟨RX7, "worthOf", "(II)I"⟩
abbrev cX7_tasteOf : ByteArray := prog_20_method_36_code
def yX7_tasteOf : MethodName := ⟨RX7, "tasteOf", "(III)I"⟩
abbrev cX7_choose : ByteArray := prog_20_method_39_code
def yX7_choose : MethodName := ⟨RX7, "choose", "(I)I"⟩
abbrev cX7_would : ByteArray := prog_20_method_40_code
def yX7_would : MethodName := ⟨RX7, "would", "(III)I"⟩
abbrev cX7_keep : ByteArray := prog_20_method_20_code
def yX7_keep : MethodName := ⟨RX7, "keep", "()V"⟩
abbrev cX7_layBack : ByteArray := prog_20_method_21_code
def yX7_layBack : MethodName := ⟨RX7, "layBack", "()V"⟩
abbrev cX7_lost : ByteArray := prog_20_method_42_code
def yX7_lost : MethodName := ⟨RX7, "lost", "(I)I"⟩
abbrev cX7_sticksBehind : ByteArray := prog_20_method_41_code
def yX7_sticksBehind : MethodName := ⟨RX7, "sticksBehind", "(IZ)I"⟩
abbrev cX7_uneven : ByteArray := prog_20_method_45_code
def yX7_uneven : MethodName := ⟨RX7, "uneven", "(JI)I"⟩
abbrev cX7_take : ByteArray := prog_20_method_43_code
def yX7_take : MethodName := ⟨RX7, "take", "(JI)I"⟩
abbrev cX7_unevenOf : ByteArray := prog_20_method_44_code
def yX7_unevenOf : MethodName := ⟨RX7, "unevenOf", "(I)I"⟩
abbrev cX7_evenest : ByteArray := prog_20_method_46_code
def yX7_evenest : MethodName := ⟨RX7, "evenest", "(JII)I"⟩
abbrev cX7_guest : ByteArray := prog_20_method_47_code
def yX7_guest : MethodName := ⟨RX7, "guest", "(II)I"⟩
abbrev cX7_held : ByteArray := prog_20_method_49_code
def yX7_held : MethodName := ⟨RX7, "held", "(I)I"⟩
abbrev cX7_staying : ByteArray := prog_20_method_48_code
def yX7_staying : MethodName := ⟨RX7, "staying", "(I)I"⟩
abbrev cX7_row : ByteArray := prog_20_method_50_code
def yX7_row : MethodName := ⟨RX7, "row", "(II)I"⟩
abbrev cX7_seen : ByteArray := prog_20_method_51_code
def yX7_seen : MethodName := ⟨RX7, "seen", "(III)I"⟩
abbrev cX7_whose : ByteArray := prog_20_method_53_code
def yX7_whose : MethodName := ⟨RX7, "whose", "(I)I"⟩
abbrev cX7_firstOf : ByteArray := prog_20_method_52_code
def yX7_firstOf : MethodName := ⟨RX7, "firstOf", "(I)I"⟩
abbrev cX7_thieves : ByteArray := prog_20_method_54_code
def yX7_thieves : MethodName := ⟨RX7, "thieves", "(I)I"⟩
abbrev cX7_gains : ByteArray := prog_20_method_58_code
def yX7_gains : MethodName := ⟨RX7, "gains", "(II)I"⟩
abbrev cX7_isSet : ByteArray := prog_20_method_57_code
def yX7_isSet : MethodName := ⟨RX7, "isSet", "(I)Z"⟩
abbrev cX7_gainsOf : ByteArray := prog_20_method_56_code
def yX7_gainsOf : MethodName := ⟨RX7, "gainsOf", "(II)I"⟩
abbrev cX7_nearest : ByteArray := prog_20_method_55_code
def yX7_nearest : MethodName := ⟨RX7, "nearest", "(I)I"⟩
abbrev cX7_even : ByteArray := prog_20_method_60_code
def yX7_even : MethodName := ⟨RX7, "even", "(I)I"⟩
abbrev cX7_turnsOf : ByteArray := prog_20_method_59_code
def yX7_turnsOf : MethodName := ⟨RX7, "turnsOf", "(I)I"⟩
abbrev cX7_ring : ByteArray := prog_20_method_61_code
def yX7_ring : MethodName := ⟨RX7, "ring", "(I)I"⟩
abbrev cX7_chose : ByteArray := prog_20_method_63_code
def yX7_chose : MethodName := ⟨RX7, "chose", "(IIIIZ)I"⟩
abbrev cX7_areShown : ByteArray := prog_20_method_62_code
def yX7_areShown : MethodName := ⟨RX7, "areShown", "(IIII)Z"⟩
abbrev cX7_may : ByteArray := prog_20_method_65_code
def yX7_may : MethodName := ⟨RX7, "may", "(I)I"⟩
abbrev cX7_mayBe : ByteArray := prog_20_method_64_code
def yX7_mayBe : MethodName := ⟨RX7, "mayBe", "(II)Z"⟩
abbrev cX7_pair : ByteArray := prog_20_method_66_code
def yX7_pair : MethodName := ⟨RX7, "pair", "(IIII)I"⟩
abbrev cX7_parting : ByteArray := prog_20_method_67_code
def yX7_parting : MethodName := ⟨RX7, "parting", "()I"⟩
abbrev cX7_spot : ByteArray := prog_20_method_68_code
def yX7_spot : MethodName := ⟨RX7, "spot", "(II)I"⟩
abbrev cX7_room : ByteArray := prog_20_method_71_code
def yX7_room : MethodName := ⟨RX7, "room", "()I"⟩
abbrev cX7_bits : ByteArray := prog_20_method_70_code
def yX7_bits : MethodName := ⟨RX7, "bits", "(I)I"⟩
abbrev cX7_apart : ByteArray := prog_20_method_69_code
def yX7_apart : MethodName := ⟨RX7, "apart", "(II)I"⟩
abbrev cX7_trip : ByteArray := prog_20_method_72_code
def yX7_trip : MethodName := ⟨RX7, "trip", "(I)I"⟩
abbrev cX7_count : ByteArray := prog_20_method_73_code
def yX7_count : MethodName := ⟨RX7, "count", "(I)I"⟩
theorem q61 : (Jvm.Cond.initialized "HutForShowModel") ∈ lw_all := lw_g (lw_at lw_m1 8 rfl) rfl
theorem q1051 : (Jvm.Cond.instantiable "HutForShowModel" (50 : Nat)) ∈ lw_all := lw_g (lw_at lw_m5 38 rfl) rfl
theorem q1053 : (Jvm.Cond.instanceMethod ({ cls := "HutForShowModel", name := "<init>", desc := "()V" } : Jvm.MethodName)) ∈ lw_all := lw_g (lw_at lw_m5 40 rfl) rfl
theorem q1054 : (Jvm.Cond.code ({ cls := "HutForShowModel", name := "<init>", desc := "()V" } : Jvm.MethodName) prog_20_method_1_code (1 : Nat) (Option.none : Option Jvm.ClassFile.FieldType)) ∈ lw_all := lw_g (lw_at lw_m5 41 rfl) rfl
theorem q1055 : (Jvm.Cond.methodLink "HutForShowModel" (1 : Nat) ({ cls := "java/lang/Object", name := "<init>", desc := "()V" } : Jvm.MethodName)) ∈ lw_all := lw_g (lw_at lw_m5 42 rfl) rfl
theorem q1056 : (Jvm.Cond.fieldLink "HutForShowModel" (155 : Nat) "HutForShowModel" "hour" "I") ∈ lw_all := lw_g (lw_at lw_m5 43 rfl) rfl
theorem q1057 : (Jvm.Cond.fieldLink "HutForShowModel" (110 : Nat) "HutForShowModel" "huts" "I") ∈ lw_all := lw_g (lw_at lw_m5 44 rfl) rfl
theorem q1058 : (Jvm.Cond.fieldLink "HutForShowModel" (7 : Nat) "HutForShowModel" "hutX" "[I") ∈ lw_all := lw_g (lw_at lw_m5 45 rfl) rfl
theorem q1059 : (Jvm.Cond.fieldLink "HutForShowModel" (13 : Nat) "HutForShowModel" "hutY" "[I") ∈ lw_all := lw_g (lw_at lw_m5 46 rfl) rfl
theorem q1060 : (Jvm.Cond.fieldLink "HutForShowModel" (16 : Nat) "HutForShowModel" "state" "[I") ∈ lw_all := lw_g (lw_at lw_m5 47 rfl) rfl
theorem q1061 : (Jvm.Cond.fieldLink "HutForShowModel" (19 : Nat) "HutForShowModel" "was" "[I") ∈ lw_all := lw_g (lw_at lw_m5 48 rfl) rfl
theorem q1062 : (Jvm.Cond.fieldLink "HutForShowModel" (22 : Nat) "HutForShowModel" "acts" "[I") ∈ lw_all := lw_g (lw_at lw_m5 49 rfl) rfl
theorem q1063 : (Jvm.Cond.fieldLink "HutForShowModel" (129 : Nat) "HutForShowModel" "things" "I") ∈ lw_all := lw_g (lw_at lw_m5 50 rfl) rfl
theorem q1064 : (Jvm.Cond.fieldLink "HutForShowModel" (25 : Nat) "HutForShowModel" "place" "[I") ∈ lw_all := lw_g (lw_at lw_m5 51 rfl) rfl
theorem q1065 : (Jvm.Cond.fieldLink "HutForShowModel" (28 : Nat) "HutForShowModel" "placeWas" "[I") ∈ lw_all := lw_g (lw_at lw_m5 52 rfl) rfl
theorem q1066 : (Jvm.Cond.fieldLink "HutForShowModel" (31 : Nat) "HutForShowModel" "colour" "[I") ∈ lw_all := lw_g (lw_at lw_m5 53 rfl) rfl
theorem q1067 : (Jvm.Cond.fieldLink "HutForShowModel" (34 : Nat) "HutForShowModel" "size" "[I") ∈ lw_all := lw_g (lw_at lw_m5 54 rfl) rfl
theorem q1068 : (Jvm.Cond.fieldLink "HutForShowModel" (37 : Nat) "HutForShowModel" "mark" "[I") ∈ lw_all := lw_g (lw_at lw_m5 55 rfl) rfl
theorem q1069 : (Jvm.Cond.fieldLink "HutForShowModel" (40 : Nat) "HutForShowModel" "reach" "I") ∈ lw_all := lw_g (lw_at lw_m5 56 rfl) rfl
theorem q1070 : (Jvm.Cond.fieldLink "HutForShowModel" (44 : Nat) "HutForShowModel" "m" "I") ∈ lw_all := lw_g (lw_at lw_m5 57 rfl) rfl
theorem q1071 : (Jvm.Cond.fieldLink "HutForShowModel" (47 : Nat) "HutForShowModel" "\x72" "I") ∈ lw_all := lw_g (lw_at lw_m5 58 rfl) rfl
theorem q1072 : (Jvm.Cond.fieldLink "HutForShowModel" (50 : Nat) "HutForShowModel" "loss" "I") ∈ lw_all := lw_g (lw_at lw_m5 59 rfl) rfl
theorem q1073 : (Jvm.Cond.fieldLink "HutForShowModel" (138 : Nat) "HutForShowModel" "way" "I") ∈ lw_all := lw_g (lw_at lw_m5 60 rfl) rfl
theorem q1074 : (Jvm.Cond.fieldLink "HutForShowModel" (162 : Nat) "HutForShowModel" "bytes" "I") ∈ lw_all := lw_g (lw_at lw_m5 61 rfl) rfl
theorem q1075 : (Jvm.Cond.fieldLink "HutForShowModel" (53 : Nat) "HutForShowModel" "text" "[I") ∈ lw_all := lw_g (lw_at lw_m5 62 rfl) rfl
theorem q1076 : (Jvm.Cond.fieldLink "HutForShowModel" (167 : Nat) "HutForShowModel" "position" "I") ∈ lw_all := lw_g (lw_at lw_m5 63 rfl) rfl
theorem q1077 : (Jvm.Cond.fieldLink "HutForShowModel" (170 : Nat) "HutForShowModel" "tokenAt" "I") ∈ lw_all := lw_g (lw_at lw_m5 64 rfl) rfl
theorem q1078 : (Jvm.Cond.fieldLink "HutForShowModel" (181 : Nat) "HutForShowModel" "token" "J") ∈ lw_all := lw_g (lw_at lw_m5 65 rfl) rfl
theorem q1079 : (Jvm.Cond.fieldLink "HutForShowModel" (173 : Nat) "HutForShowModel" "digits" "I") ∈ lw_all := lw_g (lw_at lw_m5 66 rfl) rfl
theorem q1080 : (Jvm.Cond.fieldLink "HutForShowModel" (176 : Nat) "HutForShowModel" "number" "I") ∈ lw_all := lw_g (lw_at lw_m5 67 rfl) rfl
theorem q1081 : (Jvm.Cond.fieldLink "HutForShowModel" (195 : Nat) "HutForShowModel" "faultAt" "I") ∈ lw_all := lw_g (lw_at lw_m5 68 rfl) rfl
theorem q1082 : (Jvm.Cond.fieldLink "HutForShowModel" (252 : Nat) "HutForShowModel" "readMany" "I") ∈ lw_all := lw_g (lw_at lw_m5 69 rfl) rfl
theorem q1083 : (Jvm.Cond.fieldLink "HutForShowModel" (56 : Nat) "HutForShowModel" "read" "[I") ∈ lw_all := lw_g (lw_at lw_m5 70 rfl) rfl
theorem q1084 : (Jvm.Cond.fieldLink "HutForShowModel" (59 : Nat) "HutForShowModel" "habitMany" "[I") ∈ lw_all := lw_g (lw_at lw_m5 71 rfl) rfl
theorem q1085 : (Jvm.Cond.fieldLink "HutForShowModel" (62 : Nat) "HutForShowModel" "habit" "[I") ∈ lw_all := lw_g (lw_at lw_m5 72 rfl) rfl
theorem q1086 : (Jvm.Cond.fieldLink "HutForShowModel" (65 : Nat) "HutForShowModel" "tasteMany" "[I") ∈ lw_all := lw_g (lw_at lw_m5 73 rfl) rfl
theorem q1087 : (Jvm.Cond.fieldLink "HutForShowModel" (68 : Nat) "HutForShowModel" "taste" "[I") ∈ lw_all := lw_g (lw_at lw_m5 74 rfl) rfl
theorem q1088 : (Jvm.Cond.fieldLink "HutForShowModel" (71 : Nat) "HutForShowModel" "row" "[I") ∈ lw_all := lw_g (lw_at lw_m5 75 rfl) rfl
theorem q1089 : (Jvm.Cond.fieldLink "HutForShowModel" (74 : Nat) "HutForShowModel" "order" "[I") ∈ lw_all := lw_g (lw_at lw_m5 76 rfl) rfl
theorem q1090 : (Jvm.Cond.fieldLink "HutForShowModel" (77 : Nat) "HutForShowModel" "best" "[I") ∈ lw_all := lw_g (lw_at lw_m5 77 rfl) rfl
theorem q1091 : (Jvm.Cond.fieldLink "HutForShowModel" (292 : Nat) "HutForShowModel" "guests" "I") ∈ lw_all := lw_g (lw_at lw_m5 78 rfl) rfl
theorem q1092 : (Jvm.Cond.fieldLink "HutForShowModel" (80 : Nat) "HutForShowModel" "low" "[I") ∈ lw_all := lw_g (lw_at lw_m5 79 rfl) rfl
theorem q1093 : (Jvm.Cond.fieldLink "HutForShowModel" (83 : Nat) "HutForShowModel" "high" "[I") ∈ lw_all := lw_g (lw_at lw_m5 80 rfl) rfl
theorem q1094 : (Jvm.Cond.fieldLink "HutForShowModel" (298 : Nat) "HutForShowModel" "seens" "I") ∈ lw_all := lw_g (lw_at lw_m5 81 rfl) rfl
theorem q1095 : (Jvm.Cond.fieldLink "HutForShowModel" (86 : Nat) "HutForShowModel" "seenMark" "[I") ∈ lw_all := lw_g (lw_at lw_m5 82 rfl) rfl
theorem q1096 : (Jvm.Cond.fieldLink "HutForShowModel" (89 : Nat) "HutForShowModel" "seenHut" "[I") ∈ lw_all := lw_g (lw_at lw_m5 83 rfl) rfl
theorem q1097 : (Jvm.Cond.fieldLink "HutForShowModel" (92 : Nat) "HutForShowModel" "seenHour" "[I") ∈ lw_all := lw_g (lw_at lw_m5 84 rfl) rfl
theorem q1098 : (Jvm.Cond.fieldLink "HutForShowModel" (95 : Nat) "HutForShowModel" "met" "[I") ∈ lw_all := lw_g (lw_at lw_m5 85 rfl) rfl
theorem q1099 : (Jvm.Cond.fieldLink "HutForShowModel" (321 : Nat) "HutForShowModel" "choices" "I") ∈ lw_all := lw_g (lw_at lw_m5 86 rfl) rfl
theorem q1100 : (Jvm.Cond.fieldLink "HutForShowModel" (98 : Nat) "HutForShowModel" "choice" "[I") ∈ lw_all := lw_g (lw_at lw_m5 87 rfl) rfl
theorem q1101 : (Jvm.Cond.fieldLink "HutForShowModel" (327 : Nat) "HutForShowModel" "pairs" "I") ∈ lw_all := lw_g (lw_at lw_m5 88 rfl) rfl
theorem q1102 : (Jvm.Cond.fieldLink "HutForShowModel" (101 : Nat) "HutForShowModel" "pair" "[I") ∈ lw_all := lw_g (lw_at lw_m5 89 rfl) rfl
theorem q1103 : (Jvm.Cond.fieldLink "HutForShowModel" (330 : Nat) "HutForShowModel" "spots" "I") ∈ lw_all := lw_g (lw_at lw_m5 90 rfl) rfl
theorem q1104 : (Jvm.Cond.fieldLink "HutForShowModel" (104 : Nat) "HutForShowModel" "spotX" "[I") ∈ lw_all := lw_g (lw_at lw_m5 91 rfl) rfl
theorem q1105 : (Jvm.Cond.fieldLink "HutForShowModel" (107 : Nat) "HutForShowModel" "spotY" "[I") ∈ lw_all := lw_g (lw_at lw_m5 92 rfl) rfl
theorem q1106 : (Jvm.Cond.lays "HutForShowModel" "HutForShowModel" "hour" "I") ∈ lw_all := lw_g (lw_at lw_m5 93 rfl) rfl
theorem q1107 : (Jvm.Cond.soleField "HutForShowModel" "hour") ∈ lw_all := lw_g (lw_at lw_m5 94 rfl) rfl
theorem q1108 : (Jvm.Cond.lays "HutForShowModel" "HutForShowModel" "huts" "I") ∈ lw_all := lw_g (lw_at lw_m5 95 rfl) rfl
theorem q1109 : (Jvm.Cond.soleField "HutForShowModel" "huts") ∈ lw_all := lw_g (lw_at lw_m5 96 rfl) rfl
theorem q1110 : (Jvm.Cond.laysFinal "HutForShowModel" "HutForShowModel" "hutX" "[I") ∈ lw_all := lw_g (lw_at lw_m5 97 rfl) rfl
theorem q1111 : (Jvm.Cond.soleField "HutForShowModel" "hutX") ∈ lw_all := lw_g (lw_at lw_m5 98 rfl) rfl
theorem q1112 : (Jvm.Cond.laysFinal "HutForShowModel" "HutForShowModel" "hutY" "[I") ∈ lw_all := lw_g (lw_at lw_m5 99 rfl) rfl
theorem q1113 : (Jvm.Cond.soleField "HutForShowModel" "hutY") ∈ lw_all := lw_g (lw_at lw_m5 100 rfl) rfl
theorem q1114 : (Jvm.Cond.laysFinal "HutForShowModel" "HutForShowModel" "state" "[I") ∈ lw_all := lw_g (lw_at lw_m5 101 rfl) rfl
theorem q1115 : (Jvm.Cond.soleField "HutForShowModel" "state") ∈ lw_all := lw_g (lw_at lw_m5 102 rfl) rfl
theorem q1116 : (Jvm.Cond.laysFinal "HutForShowModel" "HutForShowModel" "was" "[I") ∈ lw_all := lw_g (lw_at lw_m5 103 rfl) rfl
theorem q1117 : (Jvm.Cond.soleField "HutForShowModel" "was") ∈ lw_all := lw_g (lw_at lw_m5 104 rfl) rfl
theorem q1118 : (Jvm.Cond.laysFinal "HutForShowModel" "HutForShowModel" "acts" "[I") ∈ lw_all := lw_g (lw_at lw_m5 105 rfl) rfl
theorem q1119 : (Jvm.Cond.soleField "HutForShowModel" "acts") ∈ lw_all := lw_g (lw_at lw_m5 106 rfl) rfl
theorem q1120 : (Jvm.Cond.lays "HutForShowModel" "HutForShowModel" "things" "I") ∈ lw_all := lw_g (lw_at lw_m5 107 rfl) rfl
theorem q1121 : (Jvm.Cond.soleField "HutForShowModel" "things") ∈ lw_all := lw_g (lw_at lw_m5 108 rfl) rfl
theorem q1122 : (Jvm.Cond.laysFinal "HutForShowModel" "HutForShowModel" "place" "[I") ∈ lw_all := lw_g (lw_at lw_m5 109 rfl) rfl
theorem q1123 : (Jvm.Cond.soleField "HutForShowModel" "place") ∈ lw_all := lw_g (lw_at lw_m5 110 rfl) rfl
theorem q1124 : (Jvm.Cond.laysFinal "HutForShowModel" "HutForShowModel" "placeWas" "[I") ∈ lw_all := lw_g (lw_at lw_m5 111 rfl) rfl
theorem q1125 : (Jvm.Cond.soleField "HutForShowModel" "placeWas") ∈ lw_all := lw_g (lw_at lw_m5 112 rfl) rfl
theorem q1126 : (Jvm.Cond.laysFinal "HutForShowModel" "HutForShowModel" "colour" "[I") ∈ lw_all := lw_g (lw_at lw_m5 113 rfl) rfl
theorem q1127 : (Jvm.Cond.soleField "HutForShowModel" "colour") ∈ lw_all := lw_g (lw_at lw_m5 114 rfl) rfl
theorem q1128 : (Jvm.Cond.laysFinal "HutForShowModel" "HutForShowModel" "size" "[I") ∈ lw_all := lw_g (lw_at lw_m5 115 rfl) rfl
theorem q1129 : (Jvm.Cond.soleField "HutForShowModel" "size") ∈ lw_all := lw_g (lw_at lw_m5 116 rfl) rfl
theorem q1130 : (Jvm.Cond.laysFinal "HutForShowModel" "HutForShowModel" "mark" "[I") ∈ lw_all := lw_g (lw_at lw_m5 117 rfl) rfl
theorem q1131 : (Jvm.Cond.soleField "HutForShowModel" "mark") ∈ lw_all := lw_g (lw_at lw_m5 118 rfl) rfl
theorem q1132 : (Jvm.Cond.lays "HutForShowModel" "HutForShowModel" "reach" "I") ∈ lw_all := lw_g (lw_at lw_m5 119 rfl) rfl
theorem q1133 : (Jvm.Cond.soleField "HutForShowModel" "reach") ∈ lw_all := lw_g (lw_at lw_m5 120 rfl) rfl
theorem q1134 : (Jvm.Cond.lays "HutForShowModel" "HutForShowModel" "m" "I") ∈ lw_all := lw_g (lw_at lw_m5 121 rfl) rfl
theorem q1135 : (Jvm.Cond.soleField "HutForShowModel" "m") ∈ lw_all := lw_g (lw_at lw_m5 122 rfl) rfl
theorem q1136 : (Jvm.Cond.lays "HutForShowModel" "HutForShowModel" "\x72" "I") ∈ lw_all := lw_g (lw_at lw_m5 123 rfl) rfl
theorem q1137 : (Jvm.Cond.soleField "HutForShowModel" "\x72") ∈ lw_all := lw_g (lw_at lw_m5 124 rfl) rfl
theorem q1138 : (Jvm.Cond.lays "HutForShowModel" "HutForShowModel" "loss" "I") ∈ lw_all := lw_g (lw_at lw_m5 125 rfl) rfl
theorem q1139 : (Jvm.Cond.soleField "HutForShowModel" "loss") ∈ lw_all := lw_g (lw_at lw_m5 126 rfl) rfl
theorem q1140 : (Jvm.Cond.lays "HutForShowModel" "HutForShowModel" "way" "I") ∈ lw_all := lw_g (lw_at lw_m5 127 rfl) rfl
theorem q1141 : (Jvm.Cond.soleField "HutForShowModel" "way") ∈ lw_all := lw_g (lw_at lw_m5 128 rfl) rfl
theorem q1142 : (Jvm.Cond.lays "HutForShowModel" "HutForShowModel" "bytes" "I") ∈ lw_all := lw_g (lw_at lw_m5 129 rfl) rfl
theorem q1143 : (Jvm.Cond.soleField "HutForShowModel" "bytes") ∈ lw_all := lw_g (lw_at lw_m5 130 rfl) rfl
theorem q1144 : (Jvm.Cond.laysFinal "HutForShowModel" "HutForShowModel" "text" "[I") ∈ lw_all := lw_g (lw_at lw_m5 131 rfl) rfl
theorem q1145 : (Jvm.Cond.soleField "HutForShowModel" "text") ∈ lw_all := lw_g (lw_at lw_m5 132 rfl) rfl
theorem q1146 : (Jvm.Cond.lays "HutForShowModel" "HutForShowModel" "position" "I") ∈ lw_all := lw_g (lw_at lw_m5 133 rfl) rfl
theorem q1147 : (Jvm.Cond.soleField "HutForShowModel" "position") ∈ lw_all := lw_g (lw_at lw_m5 134 rfl) rfl
theorem q1148 : (Jvm.Cond.lays "HutForShowModel" "HutForShowModel" "tokenAt" "I") ∈ lw_all := lw_g (lw_at lw_m5 135 rfl) rfl
theorem q1149 : (Jvm.Cond.soleField "HutForShowModel" "tokenAt") ∈ lw_all := lw_g (lw_at lw_m5 136 rfl) rfl
theorem q1150 : (Jvm.Cond.lays "HutForShowModel" "HutForShowModel" "token" "J") ∈ lw_all := lw_g (lw_at lw_m5 137 rfl) rfl
theorem q1151 : (Jvm.Cond.soleField "HutForShowModel" "token") ∈ lw_all := lw_g (lw_at lw_m5 138 rfl) rfl
theorem q1152 : (Jvm.Cond.lays "HutForShowModel" "HutForShowModel" "digits" "I") ∈ lw_all := lw_g (lw_at lw_m5 139 rfl) rfl
theorem q1153 : (Jvm.Cond.soleField "HutForShowModel" "digits") ∈ lw_all := lw_g (lw_at lw_m5 140 rfl) rfl
theorem q1154 : (Jvm.Cond.lays "HutForShowModel" "HutForShowModel" "number" "I") ∈ lw_all := lw_g (lw_at lw_m5 141 rfl) rfl
theorem q1155 : (Jvm.Cond.soleField "HutForShowModel" "number") ∈ lw_all := lw_g (lw_at lw_m5 142 rfl) rfl
theorem q1156 : (Jvm.Cond.lays "HutForShowModel" "HutForShowModel" "faultAt" "I") ∈ lw_all := lw_g (lw_at lw_m5 143 rfl) rfl
theorem q1157 : (Jvm.Cond.soleField "HutForShowModel" "faultAt") ∈ lw_all := lw_g (lw_at lw_m5 144 rfl) rfl
theorem q1158 : (Jvm.Cond.lays "HutForShowModel" "HutForShowModel" "readMany" "I") ∈ lw_all := lw_g (lw_at lw_m5 145 rfl) rfl
theorem q1159 : (Jvm.Cond.soleField "HutForShowModel" "readMany") ∈ lw_all := lw_g (lw_at lw_m5 146 rfl) rfl
theorem q1160 : (Jvm.Cond.laysFinal "HutForShowModel" "HutForShowModel" "read" "[I") ∈ lw_all := lw_g (lw_at lw_m5 147 rfl) rfl
theorem q1161 : (Jvm.Cond.soleField "HutForShowModel" "read") ∈ lw_all := lw_g (lw_at lw_m5 148 rfl) rfl
theorem q1162 : (Jvm.Cond.laysFinal "HutForShowModel" "HutForShowModel" "habitMany" "[I") ∈ lw_all := lw_g (lw_at lw_m5 149 rfl) rfl
theorem q1163 : (Jvm.Cond.soleField "HutForShowModel" "habitMany") ∈ lw_all := lw_g (lw_at lw_m5 150 rfl) rfl
theorem q1164 : (Jvm.Cond.laysFinal "HutForShowModel" "HutForShowModel" "habit" "[I") ∈ lw_all := lw_g (lw_at lw_m5 151 rfl) rfl
theorem q1165 : (Jvm.Cond.soleField "HutForShowModel" "habit") ∈ lw_all := lw_g (lw_at lw_m5 152 rfl) rfl
theorem q1166 : (Jvm.Cond.laysFinal "HutForShowModel" "HutForShowModel" "tasteMany" "[I") ∈ lw_all := lw_g (lw_at lw_m5 153 rfl) rfl
theorem q1167 : (Jvm.Cond.soleField "HutForShowModel" "tasteMany") ∈ lw_all := lw_g (lw_at lw_m5 154 rfl) rfl
theorem q1168 : (Jvm.Cond.laysFinal "HutForShowModel" "HutForShowModel" "taste" "[I") ∈ lw_all := lw_g (lw_at lw_m5 155 rfl) rfl
theorem q1169 : (Jvm.Cond.soleField "HutForShowModel" "taste") ∈ lw_all := lw_g (lw_at lw_m5 156 rfl) rfl
theorem q1170 : (Jvm.Cond.laysFinal "HutForShowModel" "HutForShowModel" "row" "[I") ∈ lw_all := lw_g (lw_at lw_m5 157 rfl) rfl
theorem q1171 : (Jvm.Cond.soleField "HutForShowModel" "row") ∈ lw_all := lw_g (lw_at lw_m5 158 rfl) rfl
theorem q1172 : (Jvm.Cond.laysFinal "HutForShowModel" "HutForShowModel" "order" "[I") ∈ lw_all := lw_g (lw_at lw_m5 159 rfl) rfl
theorem q1173 : (Jvm.Cond.soleField "HutForShowModel" "order") ∈ lw_all := lw_g (lw_at lw_m5 160 rfl) rfl
theorem q1174 : (Jvm.Cond.laysFinal "HutForShowModel" "HutForShowModel" "best" "[I") ∈ lw_all := lw_g (lw_at lw_m5 161 rfl) rfl
theorem q1175 : (Jvm.Cond.soleField "HutForShowModel" "best") ∈ lw_all := lw_g (lw_at lw_m5 162 rfl) rfl
theorem q1176 : (Jvm.Cond.lays "HutForShowModel" "HutForShowModel" "guests" "I") ∈ lw_all := lw_g (lw_at lw_m5 163 rfl) rfl
theorem q1177 : (Jvm.Cond.soleField "HutForShowModel" "guests") ∈ lw_all := lw_g (lw_at lw_m5 164 rfl) rfl
theorem q1178 : (Jvm.Cond.laysFinal "HutForShowModel" "HutForShowModel" "low" "[I") ∈ lw_all := lw_g (lw_at lw_m5 165 rfl) rfl
theorem q1179 : (Jvm.Cond.soleField "HutForShowModel" "low") ∈ lw_all := lw_g (lw_at lw_m5 166 rfl) rfl
theorem q1180 : (Jvm.Cond.laysFinal "HutForShowModel" "HutForShowModel" "high" "[I") ∈ lw_all := lw_g (lw_at lw_m5 167 rfl) rfl
theorem q1181 : (Jvm.Cond.soleField "HutForShowModel" "high") ∈ lw_all := lw_g (lw_at lw_m5 168 rfl) rfl
theorem q1182 : (Jvm.Cond.lays "HutForShowModel" "HutForShowModel" "seens" "I") ∈ lw_all := lw_g (lw_at lw_m5 169 rfl) rfl
theorem q1183 : (Jvm.Cond.soleField "HutForShowModel" "seens") ∈ lw_all := lw_g (lw_at lw_m5 170 rfl) rfl
theorem q1184 : (Jvm.Cond.laysFinal "HutForShowModel" "HutForShowModel" "seenMark" "[I") ∈ lw_all := lw_g (lw_at lw_m5 171 rfl) rfl
theorem q1185 : (Jvm.Cond.soleField "HutForShowModel" "seenMark") ∈ lw_all := lw_g (lw_at lw_m5 172 rfl) rfl
theorem q1186 : (Jvm.Cond.laysFinal "HutForShowModel" "HutForShowModel" "seenHut" "[I") ∈ lw_all := lw_g (lw_at lw_m5 173 rfl) rfl
theorem q1187 : (Jvm.Cond.soleField "HutForShowModel" "seenHut") ∈ lw_all := lw_g (lw_at lw_m5 174 rfl) rfl
theorem q1188 : (Jvm.Cond.laysFinal "HutForShowModel" "HutForShowModel" "seenHour" "[I") ∈ lw_all := lw_g (lw_at lw_m5 175 rfl) rfl
theorem q1189 : (Jvm.Cond.soleField "HutForShowModel" "seenHour") ∈ lw_all := lw_g (lw_at lw_m5 176 rfl) rfl
theorem q1190 : (Jvm.Cond.laysFinal "HutForShowModel" "HutForShowModel" "met" "[I") ∈ lw_all := lw_g (lw_at lw_m5 177 rfl) rfl
theorem q1191 : (Jvm.Cond.soleField "HutForShowModel" "met") ∈ lw_all := lw_g (lw_at lw_m5 178 rfl) rfl
theorem q1192 : (Jvm.Cond.lays "HutForShowModel" "HutForShowModel" "choices" "I") ∈ lw_all := lw_g (lw_at lw_m5 179 rfl) rfl
theorem q1193 : (Jvm.Cond.soleField "HutForShowModel" "choices") ∈ lw_all := lw_g (lw_at lw_m5 180 rfl) rfl
theorem q1194 : (Jvm.Cond.laysFinal "HutForShowModel" "HutForShowModel" "choice" "[I") ∈ lw_all := lw_g (lw_at lw_m5 181 rfl) rfl
theorem q1195 : (Jvm.Cond.soleField "HutForShowModel" "choice") ∈ lw_all := lw_g (lw_at lw_m5 182 rfl) rfl
theorem q1196 : (Jvm.Cond.lays "HutForShowModel" "HutForShowModel" "pairs" "I") ∈ lw_all := lw_g (lw_at lw_m5 183 rfl) rfl
theorem q1197 : (Jvm.Cond.soleField "HutForShowModel" "pairs") ∈ lw_all := lw_g (lw_at lw_m5 184 rfl) rfl
theorem q1198 : (Jvm.Cond.laysFinal "HutForShowModel" "HutForShowModel" "pair" "[I") ∈ lw_all := lw_g (lw_at lw_m5 185 rfl) rfl
theorem q1199 : (Jvm.Cond.soleField "HutForShowModel" "pair") ∈ lw_all := lw_g (lw_at lw_m5 186 rfl) rfl
theorem q1200 : (Jvm.Cond.lays "HutForShowModel" "HutForShowModel" "spots" "I") ∈ lw_all := lw_g (lw_at lw_m5 187 rfl) rfl
theorem q1201 : (Jvm.Cond.soleField "HutForShowModel" "spots") ∈ lw_all := lw_g (lw_at lw_m5 188 rfl) rfl
theorem q1202 : (Jvm.Cond.laysFinal "HutForShowModel" "HutForShowModel" "spotX" "[I") ∈ lw_all := lw_g (lw_at lw_m5 189 rfl) rfl
theorem q1203 : (Jvm.Cond.soleField "HutForShowModel" "spotX") ∈ lw_all := lw_g (lw_at lw_m5 190 rfl) rfl
theorem q1204 : (Jvm.Cond.laysFinal "HutForShowModel" "HutForShowModel" "spotY" "[I") ∈ lw_all := lw_g (lw_at lw_m5 191 rfl) rfl
theorem q1205 : (Jvm.Cond.soleField "HutForShowModel" "spotY") ∈ lw_all := lw_g (lw_at lw_m5 192 rfl) rfl
theorem q1206 : (Jvm.Cond.superclass "HutForShowModel" "java/lang/Object") ∈ lw_all := lw_g (lw_at lw_m5 193 rfl) rfl
theorem q1208 : (Jvm.Cond.instanceMethod ({ cls := "HutForShowModel", name := "hut", desc := "(III)I" } : Jvm.MethodName)) ∈ lw_all := lw_g (lw_at lw_m5 195 rfl) rfl
theorem q1209 : (Jvm.Cond.selects "HutForShowModel" ({ cls := "HutForShowModel", name := "hut", desc := "(III)I" } : Jvm.MethodName) ({ cls := "HutForShowModel", name := "hut", desc := "(III)I" } : Jvm.MethodName)) ∈ lw_all := lw_g (lw_at lw_m5 196 rfl) rfl
theorem q1210 : (Jvm.Cond.code ({ cls := "HutForShowModel", name := "hut", desc := "(III)I" } : Jvm.MethodName) prog_20_method_5_code (4 : Nat) (Option.some Jvm.ClassFile.FieldType.int)) ∈ lw_all := lw_g (lw_at lw_m5 197 rfl) rfl
theorem q1211 : (Jvm.Cond.methodLink "HutForShowModel" (113 : Nat) ({ cls := "HutForShowModel", name := "in", desc := "(III)Z" } : Jvm.MethodName)) ∈ lw_all := lw_g (lw_at lw_m5 198 rfl) rfl
theorem q1212 : (Jvm.Cond.static ({ cls := "HutForShowModel", name := "in", desc := "(III)Z" } : Jvm.MethodName)) ∈ lw_all := lw_g (lw_at lw_m5 199 rfl) rfl
theorem q1213 : (Jvm.Cond.code ({ cls := "HutForShowModel", name := "in", desc := "(III)Z" } : Jvm.MethodName) prog_20_method_2_code (3 : Nat) (Option.some Jvm.ClassFile.FieldType.boolean)) ∈ lw_all := lw_g (lw_at lw_m5 200 rfl) rfl
theorem q1215 : (Jvm.Cond.instanceMethod ({ cls := "HutForShowModel", name := "far", desc := "(II)I" } : Jvm.MethodName)) ∈ lw_all := lw_g (lw_at lw_m5 202 rfl) rfl
theorem q1216 : (Jvm.Cond.selects "HutForShowModel" ({ cls := "HutForShowModel", name := "far", desc := "(II)I" } : Jvm.MethodName) ({ cls := "HutForShowModel", name := "far", desc := "(II)I" } : Jvm.MethodName)) ∈ lw_all := lw_g (lw_at lw_m5 203 rfl) rfl
theorem q1217 : (Jvm.Cond.code ({ cls := "HutForShowModel", name := "far", desc := "(II)I" } : Jvm.MethodName) prog_20_method_7_code (3 : Nat) (Option.some Jvm.ClassFile.FieldType.int)) ∈ lw_all := lw_g (lw_at lw_m5 204 rfl) rfl
theorem q1218 : (Jvm.Cond.methodLink "HutForShowModel" (121 : Nat) ({ cls := "HutForShowModel", name := "isHut", desc := "(I)Z" } : Jvm.MethodName)) ∈ lw_all := lw_g (lw_at lw_m5 205 rfl) rfl
theorem q1219 : (Jvm.Cond.privateMethod ({ cls := "HutForShowModel", name := "isHut", desc := "(I)Z" } : Jvm.MethodName)) ∈ lw_tbl := lw_at lw_m5 206 rfl
theorem q1220 : (Jvm.Cond.instanceMethod ({ cls := "HutForShowModel", name := "isHut", desc := "(I)Z" } : Jvm.MethodName)) ∈ lw_all := lw_g (lw_at lw_m5 207 rfl) rfl
theorem q1221 : (Jvm.Cond.code ({ cls := "HutForShowModel", name := "isHut", desc := "(I)Z" } : Jvm.MethodName) prog_20_method_4_code (2 : Nat) (Option.some Jvm.ClassFile.FieldType.boolean)) ∈ lw_all := lw_g (lw_at lw_m5 208 rfl) rfl
theorem q1222 : (Jvm.Cond.methodLink "HutForShowModel" (125 : Nat) ({ cls := "HutForShowModel", name := "farOf", desc := "(II)I" } : Jvm.MethodName)) ∈ lw_all := lw_g (lw_at lw_m5 209 rfl) rfl
theorem q1223 : (Jvm.Cond.privateMethod ({ cls := "HutForShowModel", name := "farOf", desc := "(II)I" } : Jvm.MethodName)) ∈ lw_tbl := lw_at lw_m5 210 rfl
theorem q1224 : (Jvm.Cond.instanceMethod ({ cls := "HutForShowModel", name := "farOf", desc := "(II)I" } : Jvm.MethodName)) ∈ lw_all := lw_g (lw_at lw_m5 211 rfl) rfl
theorem q1225 : (Jvm.Cond.code ({ cls := "HutForShowModel", name := "farOf", desc := "(II)I" } : Jvm.MethodName) prog_20_method_6_code (3 : Nat) (Option.some Jvm.ClassFile.FieldType.int)) ∈ lw_all := lw_g (lw_at lw_m5 212 rfl) rfl
theorem q1226 : (Jvm.Cond.methodLink "HutForShowModel" (117 : Nat) ({ cls := "HutForShowModel", name := "much", desc := "(I)I" } : Jvm.MethodName)) ∈ lw_all := lw_g (lw_at lw_m5 213 rfl) rfl
theorem q1227 : (Jvm.Cond.static ({ cls := "HutForShowModel", name := "much", desc := "(I)I" } : Jvm.MethodName)) ∈ lw_all := lw_g (lw_at lw_m5 214 rfl) rfl
theorem q1228 : (Jvm.Cond.code ({ cls := "HutForShowModel", name := "much", desc := "(I)I" } : Jvm.MethodName) prog_20_method_3_code (1 : Nat) (Option.some Jvm.ClassFile.FieldType.int)) ∈ lw_all := lw_g (lw_at lw_m5 215 rfl) rfl
theorem q1230 : (Jvm.Cond.instanceMethod ({ cls := "HutForShowModel", name := "thing", desc := "(IIII)I" } : Jvm.MethodName)) ∈ lw_all := lw_g (lw_at lw_m5 217 rfl) rfl
theorem q1231 : (Jvm.Cond.selects "HutForShowModel" ({ cls := "HutForShowModel", name := "thing", desc := "(IIII)I" } : Jvm.MethodName) ({ cls := "HutForShowModel", name := "thing", desc := "(IIII)I" } : Jvm.MethodName)) ∈ lw_all := lw_g (lw_at lw_m5 218 rfl) rfl
theorem q1232 : (Jvm.Cond.code ({ cls := "HutForShowModel", name := "thing", desc := "(IIII)I" } : Jvm.MethodName) prog_20_method_10_code (5 : Nat) (Option.some Jvm.ClassFile.FieldType.int)) ∈ lw_all := lw_g (lw_at lw_m5 219 rfl) rfl
theorem q1233 : (Jvm.Cond.methodLink "HutForShowModel" (132 : Nat) ({ cls := "HutForShowModel", name := "thingsOf", desc := "(I)I" } : Jvm.MethodName)) ∈ lw_all := lw_g (lw_at lw_m5 220 rfl) rfl
theorem q1234 : (Jvm.Cond.privateMethod ({ cls := "HutForShowModel", name := "thingsOf", desc := "(I)I" } : Jvm.MethodName)) ∈ lw_tbl := lw_at lw_m5 221 rfl
theorem q1235 : (Jvm.Cond.instanceMethod ({ cls := "HutForShowModel", name := "thingsOf", desc := "(I)I" } : Jvm.MethodName)) ∈ lw_all := lw_g (lw_at lw_m5 222 rfl) rfl
theorem q1236 : (Jvm.Cond.code ({ cls := "HutForShowModel", name := "thingsOf", desc := "(I)I" } : Jvm.MethodName) prog_20_method_8_code (4 : Nat) (Option.some Jvm.ClassFile.FieldType.int)) ∈ lw_all := lw_g (lw_at lw_m5 223 rfl) rfl
theorem q1238 : (Jvm.Cond.instanceMethod ({ cls := "HutForShowModel", name := "at", desc := "(II)I" } : Jvm.MethodName)) ∈ lw_all := lw_g (lw_at lw_m5 225 rfl) rfl
theorem q1239 : (Jvm.Cond.selects "HutForShowModel" ({ cls := "HutForShowModel", name := "at", desc := "(II)I" } : Jvm.MethodName) ({ cls := "HutForShowModel", name := "at", desc := "(II)I" } : Jvm.MethodName)) ∈ lw_all := lw_g (lw_at lw_m5 226 rfl) rfl
theorem q1240 : (Jvm.Cond.code ({ cls := "HutForShowModel", name := "at", desc := "(II)I" } : Jvm.MethodName) prog_20_method_11_code (3 : Nat) (Option.some Jvm.ClassFile.FieldType.int)) ∈ lw_all := lw_g (lw_at lw_m5 227 rfl) rfl
theorem q1242 : (Jvm.Cond.instanceMethod ({ cls := "HutForShowModel", name := "of", desc := "(II)I" } : Jvm.MethodName)) ∈ lw_all := lw_g (lw_at lw_m5 229 rfl) rfl
theorem q1243 : (Jvm.Cond.selects "HutForShowModel" ({ cls := "HutForShowModel", name := "of", desc := "(II)I" } : Jvm.MethodName) ({ cls := "HutForShowModel", name := "of", desc := "(II)I" } : Jvm.MethodName)) ∈ lw_all := lw_g (lw_at lw_m5 230 rfl) rfl
theorem q1244 : (Jvm.Cond.code ({ cls := "HutForShowModel", name := "of", desc := "(II)I" } : Jvm.MethodName) prog_20_method_12_code (3 : Nat) (Option.some Jvm.ClassFile.FieldType.int)) ∈ lw_all := lw_g (lw_at lw_m5 231 rfl) rfl
theorem q1245 : (Jvm.Cond.methodLink "HutForShowModel" (135 : Nat) ({ cls := "HutForShowModel", name := "coloured", desc := "(II)I" } : Jvm.MethodName)) ∈ lw_all := lw_g (lw_at lw_m5 232 rfl) rfl
theorem q1246 : (Jvm.Cond.privateMethod ({ cls := "HutForShowModel", name := "coloured", desc := "(II)I" } : Jvm.MethodName)) ∈ lw_tbl := lw_at lw_m5 233 rfl
theorem q1247 : (Jvm.Cond.instanceMethod ({ cls := "HutForShowModel", name := "coloured", desc := "(II)I" } : Jvm.MethodName)) ∈ lw_all := lw_g (lw_at lw_m5 234 rfl) rfl
theorem q1248 : (Jvm.Cond.code ({ cls := "HutForShowModel", name := "coloured", desc := "(II)I" } : Jvm.MethodName) prog_20_method_9_code (5 : Nat) (Option.some Jvm.ClassFile.FieldType.int)) ∈ lw_all := lw_g (lw_at lw_m5 235 rfl) rfl
theorem q1250 : (Jvm.Cond.instanceMethod ({ cls := "HutForShowModel", name := "set", desc := "(II)I" } : Jvm.MethodName)) ∈ lw_all := lw_g (lw_at lw_m5 237 rfl) rfl
theorem q1251 : (Jvm.Cond.selects "HutForShowModel" ({ cls := "HutForShowModel", name := "set", desc := "(II)I" } : Jvm.MethodName) ({ cls := "HutForShowModel", name := "set", desc := "(II)I" } : Jvm.MethodName)) ∈ lw_all := lw_g (lw_at lw_m5 238 rfl) rfl
theorem q1252 : (Jvm.Cond.code ({ cls := "HutForShowModel", name := "set", desc := "(II)I" } : Jvm.MethodName) prog_20_method_13_code (5 : Nat) (Option.some Jvm.ClassFile.FieldType.int)) ∈ lw_all := lw_g (lw_at lw_m5 239 rfl) rfl
theorem q1254 : (Jvm.Cond.instanceMethod ({ cls := "HutForShowModel", name := "hours", desc := "(I)I" } : Jvm.MethodName)) ∈ lw_all := lw_g (lw_at lw_m6 1 rfl) rfl
theorem q1255 : (Jvm.Cond.selects "HutForShowModel" ({ cls := "HutForShowModel", name := "hours", desc := "(I)I" } : Jvm.MethodName) ({ cls := "HutForShowModel", name := "hours", desc := "(I)I" } : Jvm.MethodName)) ∈ lw_all := lw_g (lw_at lw_m6 2 rfl) rfl
theorem q1256 : (Jvm.Cond.code ({ cls := "HutForShowModel", name := "hours", desc := "(I)I" } : Jvm.MethodName) prog_20_method_19_code (3 : Nat) (Option.some Jvm.ClassFile.FieldType.int)) ∈ lw_all := lw_g (lw_at lw_m6 3 rfl) rfl
theorem q1257 : (Jvm.Cond.methodLink "HutForShowModel" (158 : Nat) ({ cls := "HutForShowModel", name := "goHour", desc := "(IZ)V" } : Jvm.MethodName)) ∈ lw_all := lw_g (lw_at lw_m6 4 rfl) rfl
theorem q1258 : (Jvm.Cond.privateMethod ({ cls := "HutForShowModel", name := "goHour", desc := "(IZ)V" } : Jvm.MethodName)) ∈ lw_tbl := lw_at lw_m6 5 rfl
theorem q1259 : (Jvm.Cond.instanceMethod ({ cls := "HutForShowModel", name := "goHour", desc := "(IZ)V" } : Jvm.MethodName)) ∈ lw_all := lw_g (lw_at lw_m6 6 rfl) rfl
theorem q1260 : (Jvm.Cond.code ({ cls := "HutForShowModel", name := "goHour", desc := "(IZ)V" } : Jvm.MethodName) prog_20_method_18_code (5 : Nat) (Option.none : Option Jvm.ClassFile.FieldType)) ∈ lw_all := lw_g (lw_at lw_m6 7 rfl) rfl
theorem q1261 : (Jvm.Cond.methodLink "HutForShowModel" (148 : Nat) ({ cls := "HutForShowModel", name := "actOf", desc := "(II)I" } : Jvm.MethodName)) ∈ lw_all := lw_g (lw_at lw_m6 8 rfl) rfl
theorem q1262 : (Jvm.Cond.privateMethod ({ cls := "HutForShowModel", name := "actOf", desc := "(II)I" } : Jvm.MethodName)) ∈ lw_tbl := lw_at lw_m6 9 rfl
theorem q1263 : (Jvm.Cond.instanceMethod ({ cls := "HutForShowModel", name := "actOf", desc := "(II)I" } : Jvm.MethodName)) ∈ lw_all := lw_g (lw_at lw_m6 10 rfl) rfl
theorem q1264 : (Jvm.Cond.code ({ cls := "HutForShowModel", name := "actOf", desc := "(II)I" } : Jvm.MethodName) prog_20_method_16_code (5 : Nat) (Option.some Jvm.ClassFile.FieldType.int)) ∈ lw_all := lw_g (lw_at lw_m6 11 rfl) rfl
theorem q1265 : (Jvm.Cond.methodLink "HutForShowModel" (145 : Nat) ({ cls := "HutForShowModel", name := "doesHold", desc := "(III)Z" } : Jvm.MethodName)) ∈ lw_all := lw_g (lw_at lw_m6 12 rfl) rfl
theorem q1266 : (Jvm.Cond.privateMethod ({ cls := "HutForShowModel", name := "doesHold", desc := "(III)Z" } : Jvm.MethodName)) ∈ lw_tbl := lw_at lw_m6 13 rfl
theorem q1267 : (Jvm.Cond.instanceMethod ({ cls := "HutForShowModel", name := "doesHold", desc := "(III)Z" } : Jvm.MethodName)) ∈ lw_all := lw_g (lw_at lw_m6 14 rfl) rfl
theorem q1268 : (Jvm.Cond.code ({ cls := "HutForShowModel", name := "doesHold", desc := "(III)Z" } : Jvm.MethodName) prog_20_method_15_code (8 : Nat) (Option.some Jvm.ClassFile.FieldType.boolean)) ∈ lw_all := lw_g (lw_at lw_m6 15 rfl) rfl
theorem q1269 : (Jvm.Cond.methodLink "HutForShowModel" (141 : Nat) ({ cls := "HutForShowModel", name := "reading", desc := "(III)I" } : Jvm.MethodName)) ∈ lw_all := lw_g (lw_at lw_m6 16 rfl) rfl
theorem q1270 : (Jvm.Cond.privateMethod ({ cls := "HutForShowModel", name := "reading", desc := "(III)I" } : Jvm.MethodName)) ∈ lw_tbl := lw_at lw_m6 17 rfl
theorem q1271 : (Jvm.Cond.instanceMethod ({ cls := "HutForShowModel", name := "reading", desc := "(III)I" } : Jvm.MethodName)) ∈ lw_all := lw_g (lw_at lw_m6 18 rfl) rfl
theorem q1272 : (Jvm.Cond.code ({ cls := "HutForShowModel", name := "reading", desc := "(III)I" } : Jvm.MethodName) prog_20_method_14_code (4 : Nat) (Option.some Jvm.ClassFile.FieldType.int)) ∈ lw_all := lw_g (lw_at lw_m6 19 rfl) rfl
theorem q1273 : (Jvm.Cond.methodLink "HutForShowModel" (151 : Nat) ({ cls := "HutForShowModel", name := "raid", desc := "(II)V" } : Jvm.MethodName)) ∈ lw_all := lw_g (lw_at lw_m6 20 rfl) rfl
theorem q1274 : (Jvm.Cond.privateMethod ({ cls := "HutForShowModel", name := "raid", desc := "(II)V" } : Jvm.MethodName)) ∈ lw_tbl := lw_at lw_m6 21 rfl
theorem q1275 : (Jvm.Cond.instanceMethod ({ cls := "HutForShowModel", name := "raid", desc := "(II)V" } : Jvm.MethodName)) ∈ lw_all := lw_g (lw_at lw_m6 22 rfl) rfl
theorem q1276 : (Jvm.Cond.code ({ cls := "HutForShowModel", name := "raid", desc := "(II)V" } : Jvm.MethodName) prog_20_method_17_code (6 : Nat) (Option.none : Option Jvm.ClassFile.FieldType)) ∈ lw_all := lw_g (lw_at lw_m6 23 rfl) rfl
theorem q1278 : (Jvm.Cond.instanceMethod ({ cls := "HutForShowModel", name := "write", desc := "(JI)I" } : Jvm.MethodName)) ∈ lw_all := lw_g (lw_at lw_m6 25 rfl) rfl
theorem q1279 : (Jvm.Cond.selects "HutForShowModel" ({ cls := "HutForShowModel", name := "write", desc := "(JI)I" } : Jvm.MethodName) ({ cls := "HutForShowModel", name := "write", desc := "(JI)I" } : Jvm.MethodName)) ∈ lw_all := lw_g (lw_at lw_m6 26 rfl) rfl
theorem q1280 : (Jvm.Cond.code ({ cls := "HutForShowModel", name := "write", desc := "(JI)I" } : Jvm.MethodName) prog_20_method_22_code (5 : Nat) (Option.some Jvm.ClassFile.FieldType.int)) ∈ lw_all := lw_g (lw_at lw_m6 27 rfl) rfl
theorem q1281 : (Jvm.Cond.constantLong "HutForShowModel" (165 : Nat) (255 : Int64)) ∈ lw_all := lw_g (lw_at lw_m6 28 rfl) rfl
theorem q1283 : (Jvm.Cond.instanceMethod ({ cls := "HutForShowModel", name := "erase", desc := "()I" } : Jvm.MethodName)) ∈ lw_all := lw_g (lw_at lw_m6 30 rfl) rfl
theorem q1284 : (Jvm.Cond.selects "HutForShowModel" ({ cls := "HutForShowModel", name := "erase", desc := "()I" } : Jvm.MethodName) ({ cls := "HutForShowModel", name := "erase", desc := "()I" } : Jvm.MethodName)) ∈ lw_all := lw_g (lw_at lw_m6 31 rfl) rfl
theorem q1285 : (Jvm.Cond.code ({ cls := "HutForShowModel", name := "erase", desc := "()I" } : Jvm.MethodName) prog_20_method_23_code (2 : Nat) (Option.some Jvm.ClassFile.FieldType.int)) ∈ lw_all := lw_g (lw_at lw_m6 32 rfl) rfl
theorem q1287 : (Jvm.Cond.instanceMethod ({ cls := "HutForShowModel", name := "fault", desc := "(I)I" } : Jvm.MethodName)) ∈ lw_all := lw_g (lw_at lw_m6 34 rfl) rfl
theorem q1288 : (Jvm.Cond.selects "HutForShowModel" ({ cls := "HutForShowModel", name := "fault", desc := "(I)I" } : Jvm.MethodName) ({ cls := "HutForShowModel", name := "fault", desc := "(I)I" } : Jvm.MethodName)) ∈ lw_all := lw_g (lw_at lw_m6 35 rfl) rfl
theorem q1289 : (Jvm.Cond.code ({ cls := "HutForShowModel", name := "fault", desc := "(I)I" } : Jvm.MethodName) prog_20_method_31_code (2 : Nat) (Option.some Jvm.ClassFile.FieldType.int)) ∈ lw_all := lw_g (lw_at lw_m6 36 rfl) rfl
theorem q1290 : (Jvm.Cond.methodLink "HutForShowModel" (261 : Nat) ({ cls := "HutForShowModel", name := "isRead", desc := "(I)Z" } : Jvm.MethodName)) ∈ lw_all := lw_g (lw_at lw_m6 37 rfl) rfl
theorem q1291 : (Jvm.Cond.privateMethod ({ cls := "HutForShowModel", name := "isRead", desc := "(I)Z" } : Jvm.MethodName)) ∈ lw_tbl := lw_at lw_m6 38 rfl
theorem q1292 : (Jvm.Cond.instanceMethod ({ cls := "HutForShowModel", name := "isRead", desc := "(I)Z" } : Jvm.MethodName)) ∈ lw_all := lw_g (lw_at lw_m6 39 rfl) rfl
theorem q1293 : (Jvm.Cond.code ({ cls := "HutForShowModel", name := "isRead", desc := "(I)Z" } : Jvm.MethodName) prog_20_method_30_code (3 : Nat) (Option.some Jvm.ClassFile.FieldType.boolean)) ∈ lw_all := lw_g (lw_at lw_m6 40 rfl) rfl
theorem q1294 : (Jvm.Cond.methodLink "HutForShowModel" (255 : Nat) ({ cls := "HutForShowModel", name := "isHabitLine", desc := "(I)Z" } : Jvm.MethodName)) ∈ lw_all := lw_g (lw_at lw_m6 41 rfl) rfl
theorem q1295 : (Jvm.Cond.privateMethod ({ cls := "HutForShowModel", name := "isHabitLine", desc := "(I)Z" } : Jvm.MethodName)) ∈ lw_tbl := lw_at lw_m6 42 rfl
theorem q1296 : (Jvm.Cond.instanceMethod ({ cls := "HutForShowModel", name := "isHabitLine", desc := "(I)Z" } : Jvm.MethodName)) ∈ lw_all := lw_g (lw_at lw_m6 43 rfl) rfl
theorem q1297 : (Jvm.Cond.code ({ cls := "HutForShowModel", name := "isHabitLine", desc := "(I)Z" } : Jvm.MethodName) prog_20_method_28_code (4 : Nat) (Option.some Jvm.ClassFile.FieldType.boolean)) ∈ lw_all := lw_g (lw_at lw_m6 44 rfl) rfl
theorem q1298 : (Jvm.Cond.methodLink "HutForShowModel" (198 : Nat) ({ cls := "HutForShowModel", name := "nextToken", desc := "()V" } : Jvm.MethodName)) ∈ lw_all := lw_g (lw_at lw_m6 45 rfl) rfl
theorem q1299 : (Jvm.Cond.privateMethod ({ cls := "HutForShowModel", name := "nextToken", desc := "()V" } : Jvm.MethodName)) ∈ lw_tbl := lw_at lw_m6 46 rfl
theorem q1300 : (Jvm.Cond.instanceMethod ({ cls := "HutForShowModel", name := "nextToken", desc := "()V" } : Jvm.MethodName)) ∈ lw_all := lw_g (lw_at lw_m6 47 rfl) rfl
theorem q1301 : (Jvm.Cond.code ({ cls := "HutForShowModel", name := "nextToken", desc := "()V" } : Jvm.MethodName) prog_20_method_24_code (1 : Nat) (Option.none : Option Jvm.ClassFile.FieldType)) ∈ lw_all := lw_g (lw_at lw_m6 48 rfl) rfl
theorem q1302 : (Jvm.Cond.constantLong "HutForShowModel" (179 : Nat) (-2 : Int64)) ∈ lw_all := lw_g (lw_at lw_m6 49 rfl) rfl
theorem q1303 : (Jvm.Cond.constantLong "HutForShowModel" (185 : Nat) (27 : Int64)) ∈ lw_all := lw_g (lw_at lw_m6 50 rfl) rfl
theorem q1304 : (Jvm.Cond.constantLong "HutForShowModel" (187 : Nat) (96 : Int64)) ∈ lw_all := lw_g (lw_at lw_m6 51 rfl) rfl
theorem q1305 : (Jvm.Cond.constantLong "HutForShowModel" (189 : Nat) (-4 : Int64)) ∈ lw_all := lw_g (lw_at lw_m6 52 rfl) rfl
theorem q1306 : (Jvm.Cond.constantLong "HutForShowModel" (191 : Nat) (-1 : Int64)) ∈ lw_all := lw_g (lw_at lw_m6 53 rfl) rfl
theorem q1307 : (Jvm.Cond.constantLong "HutForShowModel" (193 : Nat) (-3 : Int64)) ∈ lw_all := lw_g (lw_at lw_m6 54 rfl) rfl
theorem q1308 : (Jvm.Cond.constantLong "HutForShowModel" (225 : Nat) (4134649 : Int64)) ∈ lw_all := lw_g (lw_at lw_m6 55 rfl) rfl
theorem q1309 : (Jvm.Cond.constantLong "HutForShowModel" (227 : Nat) (259906 : Int64)) ∈ lw_all := lw_g (lw_at lw_m6 56 rfl) rfl
theorem q1310 : (Jvm.Cond.constantLong "HutForShowModel" (229 : Nat) (125041 : Int64)) ∈ lw_all := lw_g (lw_at lw_m6 57 rfl) rfl
theorem q1311 : (Jvm.Cond.constantLong "HutForShowModel" (231 : Nat) (121882 : Int64)) ∈ lw_all := lw_g (lw_at lw_m6 58 rfl) rfl
theorem q1312 : (Jvm.Cond.constantLong "HutForShowModel" (233 : Nat) (355270 : Int64)) ∈ lw_all := lw_g (lw_at lw_m6 59 rfl) rfl
theorem q1313 : (Jvm.Cond.methodLink "HutForShowModel" (201 : Nat) ({ cls := "HutForShowModel", name := "fails", desc := "()Z" } : Jvm.MethodName)) ∈ lw_all := lw_g (lw_at lw_m6 60 rfl) rfl
theorem q1314 : (Jvm.Cond.privateMethod ({ cls := "HutForShowModel", name := "fails", desc := "()Z" } : Jvm.MethodName)) ∈ lw_tbl := lw_at lw_m6 61 rfl
theorem q1315 : (Jvm.Cond.instanceMethod ({ cls := "HutForShowModel", name := "fails", desc := "()Z" } : Jvm.MethodName)) ∈ lw_all := lw_g (lw_at lw_m6 62 rfl) rfl
theorem q1316 : (Jvm.Cond.code ({ cls := "HutForShowModel", name := "fails", desc := "()Z" } : Jvm.MethodName) prog_20_method_25_code (1 : Nat) (Option.some Jvm.ClassFile.FieldType.boolean)) ∈ lw_all := lw_g (lw_at lw_m6 63 rfl) rfl
theorem q1317 : (Jvm.Cond.methodLink "HutForShowModel" (221 : Nat) ({ cls := "HutForShowModel", name := "isNumber", desc := "(II)Z" } : Jvm.MethodName)) ∈ lw_all := lw_g (lw_at lw_m6 64 rfl) rfl
theorem q1318 : (Jvm.Cond.privateMethod ({ cls := "HutForShowModel", name := "isNumber", desc := "(II)Z" } : Jvm.MethodName)) ∈ lw_tbl := lw_at lw_m6 65 rfl
theorem q1319 : (Jvm.Cond.instanceMethod ({ cls := "HutForShowModel", name := "isNumber", desc := "(II)Z" } : Jvm.MethodName)) ∈ lw_all := lw_g (lw_at lw_m6 66 rfl) rfl
theorem q1320 : (Jvm.Cond.code ({ cls := "HutForShowModel", name := "isNumber", desc := "(II)Z" } : Jvm.MethodName) prog_20_method_26_code (3 : Nat) (Option.some Jvm.ClassFile.FieldType.boolean)) ∈ lw_all := lw_g (lw_at lw_m6 67 rfl) rfl
theorem q1321 : (Jvm.Cond.constantLong "HutForShowModel" (235 : Nat) (458690 : Int64)) ∈ lw_all := lw_g (lw_at lw_m6 68 rfl) rfl
theorem q1322 : (Jvm.Cond.methodLink "HutForShowModel" (237 : Nat) ({ cls := "HutForShowModel", name := "isTest", desc := "(I)Z" } : Jvm.MethodName)) ∈ lw_all := lw_g (lw_at lw_m6 69 rfl) rfl
theorem q1323 : (Jvm.Cond.privateMethod ({ cls := "HutForShowModel", name := "isTest", desc := "(I)Z" } : Jvm.MethodName)) ∈ lw_tbl := lw_at lw_m6 70 rfl
theorem q1324 : (Jvm.Cond.instanceMethod ({ cls := "HutForShowModel", name := "isTest", desc := "(I)Z" } : Jvm.MethodName)) ∈ lw_all := lw_g (lw_at lw_m6 71 rfl) rfl
theorem q1325 : (Jvm.Cond.code ({ cls := "HutForShowModel", name := "isTest", desc := "(I)Z" } : Jvm.MethodName) prog_20_method_27_code (2 : Nat) (Option.some Jvm.ClassFile.FieldType.boolean)) ∈ lw_all := lw_g (lw_at lw_m6 72 rfl) rfl
theorem q1326 : (Jvm.Cond.constantLong "HutForShowModel" (205 : Nat) (283437703 : Int64)) ∈ lw_all := lw_g (lw_at lw_m6 73 rfl) rfl
theorem q1327 : (Jvm.Cond.constantLong "HutForShowModel" (207 : Nat) (291417229 : Int64)) ∈ lw_all := lw_g (lw_at lw_m6 74 rfl) rfl
theorem q1328 : (Jvm.Cond.constantLong "HutForShowModel" (209 : Nat) (48686 : Int64)) ∈ lw_all := lw_g (lw_at lw_m6 75 rfl) rfl
theorem q1329 : (Jvm.Cond.constantLong "HutForShowModel" (211 : Nat) (126232335 : Int64)) ∈ lw_all := lw_g (lw_at lw_m6 76 rfl) rfl
theorem q1330 : (Jvm.Cond.constantLong "HutForShowModel" (213 : Nat) (247664 : Int64)) ∈ lw_all := lw_g (lw_at lw_m6 77 rfl) rfl
theorem q1331 : (Jvm.Cond.constantLong "HutForShowModel" (215 : Nat) (168984 : Int64)) ∈ lw_all := lw_g (lw_at lw_m6 78 rfl) rfl
theorem q1332 : (Jvm.Cond.constantLong "HutForShowModel" (217 : Nat) (1170473 : Int64)) ∈ lw_all := lw_g (lw_at lw_m6 79 rfl) rfl
theorem q1333 : (Jvm.Cond.constantLong "HutForShowModel" (219 : Nat) (582341 : Int64)) ∈ lw_all := lw_g (lw_at lw_m6 80 rfl) rfl
theorem q1334 : (Jvm.Cond.constantLong "HutForShowModel" (240 : Nat) (1111 : Int64)) ∈ lw_all := lw_g (lw_at lw_m6 81 rfl) rfl
theorem q1335 : (Jvm.Cond.methodLink "HutForShowModel" (258 : Nat) ({ cls := "HutForShowModel", name := "isTasteLine", desc := "(I)Z" } : Jvm.MethodName)) ∈ lw_all := lw_g (lw_at lw_m6 82 rfl) rfl
theorem q1336 : (Jvm.Cond.privateMethod ({ cls := "HutForShowModel", name := "isTasteLine", desc := "(I)Z" } : Jvm.MethodName)) ∈ lw_tbl := lw_at lw_m6 83 rfl
theorem q1337 : (Jvm.Cond.instanceMethod ({ cls := "HutForShowModel", name := "isTasteLine", desc := "(I)Z" } : Jvm.MethodName)) ∈ lw_all := lw_g (lw_at lw_m6 84 rfl) rfl
theorem q1338 : (Jvm.Cond.code ({ cls := "HutForShowModel", name := "isTasteLine", desc := "(I)Z" } : Jvm.MethodName) prog_20_method_29_code (2 : Nat) (Option.some Jvm.ClassFile.FieldType.boolean)) ∈ lw_all := lw_g (lw_at lw_m6 85 rfl) rfl
theorem q1339 : (Jvm.Cond.constantLong "HutForShowModel" (242 : Nat) (10497692 : Int64)) ∈ lw_all := lw_g (lw_at lw_m6 86 rfl) rfl
theorem q1340 : (Jvm.Cond.constantLong "HutForShowModel" (244 : Nat) (51266052 : Int64)) ∈ lw_all := lw_g (lw_at lw_m6 87 rfl) rfl
theorem q1341 : (Jvm.Cond.constantLong "HutForShowModel" (246 : Nat) (381245 : Int64)) ∈ lw_all := lw_g (lw_at lw_m6 88 rfl) rfl
theorem q1342 : (Jvm.Cond.constantLong "HutForShowModel" (248 : Nat) (13550 : Int64)) ∈ lw_all := lw_g (lw_at lw_m6 89 rfl) rfl
theorem q1343 : (Jvm.Cond.constantLong "HutForShowModel" (250 : Nat) (6476969 : Int64)) ∈ lw_all := lw_g (lw_at lw_m6 90 rfl) rfl
theorem q1345 : (Jvm.Cond.instanceMethod ({ cls := "HutForShowModel", name := "habit", desc := "(I)I" } : Jvm.MethodName)) ∈ lw_all := lw_g (lw_at lw_m6 92 rfl) rfl
theorem q1346 : (Jvm.Cond.selects "HutForShowModel" ({ cls := "HutForShowModel", name := "habit", desc := "(I)I" } : Jvm.MethodName) ({ cls := "HutForShowModel", name := "habit", desc := "(I)I" } : Jvm.MethodName)) ∈ lw_all := lw_g (lw_at lw_m6 93 rfl) rfl
theorem q1347 : (Jvm.Cond.code ({ cls := "HutForShowModel", name := "habit", desc := "(I)I" } : Jvm.MethodName) prog_20_method_32_code (3 : Nat) (Option.some Jvm.ClassFile.FieldType.int)) ∈ lw_all := lw_g (lw_at lw_m6 94 rfl) rfl
theorem q1349 : (Jvm.Cond.instanceMethod ({ cls := "HutForShowModel", name := "taste", desc := "(I)I" } : Jvm.MethodName)) ∈ lw_all := lw_g (lw_at lw_m6 96 rfl) rfl
theorem q1350 : (Jvm.Cond.selects "HutForShowModel" ({ cls := "HutForShowModel", name := "taste", desc := "(I)I" } : Jvm.MethodName) ({ cls := "HutForShowModel", name := "taste", desc := "(I)I" } : Jvm.MethodName)) ∈ lw_all := lw_g (lw_at lw_m6 97 rfl) rfl
theorem q1351 : (Jvm.Cond.code ({ cls := "HutForShowModel", name := "taste", desc := "(I)I" } : Jvm.MethodName) prog_20_method_34_code (3 : Nat) (Option.some Jvm.ClassFile.FieldType.int)) ∈ lw_all := lw_g (lw_at lw_m6 98 rfl) rfl
theorem q1352 : (Jvm.Cond.methodLink "HutForShowModel" (264 : Nat) ({ cls := "HutForShowModel", name := "isVisitor", desc := "(I)Z" } : Jvm.MethodName)) ∈ lw_all := lw_g (lw_at lw_m6 99 rfl) rfl
theorem q1353 : (Jvm.Cond.static ({ cls := "HutForShowModel", name := "isVisitor", desc := "(I)Z" } : Jvm.MethodName)) ∈ lw_all := lw_g (lw_at lw_m6 100 rfl) rfl
theorem q1354 : (Jvm.Cond.code ({ cls := "HutForShowModel", name := "isVisitor", desc := "(I)Z" } : Jvm.MethodName) prog_20_method_33_code (1 : Nat) (Option.some Jvm.ClassFile.FieldType.boolean)) ∈ lw_all := lw_g (lw_at lw_m6 101 rfl) rfl
theorem q1356 : (Jvm.Cond.instanceMethod ({ cls := "HutForShowModel", name := "act", desc := "(I)I" } : Jvm.MethodName)) ∈ lw_all := lw_g (lw_at lw_m6 103 rfl) rfl
theorem q1357 : (Jvm.Cond.selects "HutForShowModel" ({ cls := "HutForShowModel", name := "act", desc := "(I)I" } : Jvm.MethodName) ({ cls := "HutForShowModel", name := "act", desc := "(I)I" } : Jvm.MethodName)) ∈ lw_all := lw_g (lw_at lw_m6 104 rfl) rfl
theorem q1358 : (Jvm.Cond.code ({ cls := "HutForShowModel", name := "act", desc := "(I)I" } : Jvm.MethodName) prog_20_method_35_code (2 : Nat) (Option.some Jvm.ClassFile.FieldType.int)) ∈ lw_all := lw_g (lw_at lw_m6 105 rfl) rfl
theorem q1360 : (Jvm.Cond.instanceMethod ({ cls := "HutForShowModel", name := "worth", desc := "(II)I" } : Jvm.MethodName)) ∈ lw_all := lw_g (lw_at lw_m6 107 rfl) rfl
theorem q1361 : (Jvm.Cond.selects "HutForShowModel" ({ cls := "HutForShowModel", name := "worth", desc := "(II)I" } : Jvm.MethodName) ({ cls := "HutForShowModel", name := "worth", desc := "(II)I" } : Jvm.MethodName)) ∈ lw_all := lw_g (lw_at lw_m6 108 rfl) rfl
theorem q1362 : (Jvm.Cond.code ({ cls := "HutForShowModel", name := "worth", desc := "(II)I" } : Jvm.MethodName) prog_20_method_38_code (3 : Nat) (Option.some Jvm.ClassFile.FieldType.int)) ∈ lw_all := lw_g (lw_at lw_m6 109 rfl) rfl
theorem q1363 : (Jvm.Cond.methodLink "HutForShowModel" (270 : Nat) ({ cls := "HutForShowModel", name := "worthOf", desc := "(II)I" } : Jvm.MethodName)) ∈ lw_all := lw_g (lw_at lw_m6 110 rfl) rfl
theorem q1364 : (Jvm.Cond.privateMethod ({ cls := "HutForShowModel", name := "worthOf", desc := "(II)I" } : Jvm.MethodName)) ∈ lw_tbl := lw_at lw_m6 111 rfl
theorem q1365 : (Jvm.Cond.instanceMethod ({ cls := "HutForShowModel", name := "worthOf", desc := "(II)I" } : Jvm.MethodName)) ∈ lw_all := lw_g (lw_at lw_m6 112 rfl) rfl
theorem q1366 : (Jvm.Cond.code ({ cls := "HutForShowModel", name := "worthOf", desc := "(II)I" } : Jvm.MethodName) prog_20_method_37_code (7 : Nat) (Option.some Jvm.ClassFile.FieldType.int)) ∈ lw_all := lw_g (lw_at lw_m6 113 rfl) rfl
theorem q1367 : (Jvm.Cond.methodLink "HutForShowModel" (267 : Nat) ({ cls := "HutForShowModel", name := "tasteOf", desc := "(III)I" } : Jvm.MethodName)) ∈ lw_all := lw_g (lw_at lw_m6 114 rfl) rfl
theorem q1368 : (Jvm.Cond.privateMethod ({ cls := "HutForShowModel", name := "tasteOf", desc := "(III)I" } : Jvm.MethodName)) ∈ lw_tbl := lw_at lw_m6 115 rfl
theorem q1369 : (Jvm.Cond.instanceMethod ({ cls := "HutForShowModel", name := "tasteOf", desc := "(III)I" } : Jvm.MethodName)) ∈ lw_all := lw_g (lw_at lw_m6 116 rfl) rfl
theorem q1370 : (Jvm.Cond.code ({ cls := "HutForShowModel", name := "tasteOf", desc := "(III)I" } : Jvm.MethodName) prog_20_method_36_code (7 : Nat) (Option.some Jvm.ClassFile.FieldType.int)) ∈ lw_all := lw_g (lw_at lw_m6 117 rfl) rfl
theorem q1372 : (Jvm.Cond.instanceMethod ({ cls := "HutForShowModel", name := "choose", desc := "(I)I" } : Jvm.MethodName)) ∈ lw_all := lw_g (lw_at lw_m6 119 rfl) rfl
theorem q1373 : (Jvm.Cond.selects "HutForShowModel" ({ cls := "HutForShowModel", name := "choose", desc := "(I)I" } : Jvm.MethodName) ({ cls := "HutForShowModel", name := "choose", desc := "(I)I" } : Jvm.MethodName)) ∈ lw_all := lw_g (lw_at lw_m6 120 rfl) rfl
theorem q1374 : (Jvm.Cond.code ({ cls := "HutForShowModel", name := "choose", desc := "(I)I" } : Jvm.MethodName) prog_20_method_39_code (6 : Nat) (Option.some Jvm.ClassFile.FieldType.int)) ∈ lw_all := lw_g (lw_at lw_m6 121 rfl) rfl
theorem q1376 : (Jvm.Cond.instanceMethod ({ cls := "HutForShowModel", name := "would", desc := "(III)I" } : Jvm.MethodName)) ∈ lw_all := lw_g (lw_at lw_m6 123 rfl) rfl
theorem q1377 : (Jvm.Cond.selects "HutForShowModel" ({ cls := "HutForShowModel", name := "would", desc := "(III)I" } : Jvm.MethodName) ({ cls := "HutForShowModel", name := "would", desc := "(III)I" } : Jvm.MethodName)) ∈ lw_all := lw_g (lw_at lw_m6 124 rfl) rfl
theorem q1378 : (Jvm.Cond.code ({ cls := "HutForShowModel", name := "would", desc := "(III)I" } : Jvm.MethodName) prog_20_method_40_code (5 : Nat) (Option.some Jvm.ClassFile.FieldType.int)) ∈ lw_all := lw_g (lw_at lw_m6 125 rfl) rfl
theorem q1379 : (Jvm.Cond.methodLink "HutForShowModel" (273 : Nat) ({ cls := "HutForShowModel", name := "keep", desc := "()V" } : Jvm.MethodName)) ∈ lw_all := lw_g (lw_at lw_m6 126 rfl) rfl
theorem q1380 : (Jvm.Cond.privateMethod ({ cls := "HutForShowModel", name := "keep", desc := "()V" } : Jvm.MethodName)) ∈ lw_tbl := lw_at lw_m6 127 rfl
theorem q1381 : (Jvm.Cond.instanceMethod ({ cls := "HutForShowModel", name := "keep", desc := "()V" } : Jvm.MethodName)) ∈ lw_all := lw_g (lw_at lw_m6 128 rfl) rfl
theorem q1382 : (Jvm.Cond.code ({ cls := "HutForShowModel", name := "keep", desc := "()V" } : Jvm.MethodName) prog_20_method_20_code (2 : Nat) (Option.none : Option Jvm.ClassFile.FieldType)) ∈ lw_all := lw_g (lw_at lw_m6 129 rfl) rfl
theorem q1383 : (Jvm.Cond.methodLink "HutForShowModel" (276 : Nat) ({ cls := "HutForShowModel", name := "layBack", desc := "()V" } : Jvm.MethodName)) ∈ lw_all := lw_g (lw_at lw_m6 130 rfl) rfl
theorem q1384 : (Jvm.Cond.privateMethod ({ cls := "HutForShowModel", name := "layBack", desc := "()V" } : Jvm.MethodName)) ∈ lw_tbl := lw_at lw_m6 131 rfl
theorem q1385 : (Jvm.Cond.instanceMethod ({ cls := "HutForShowModel", name := "layBack", desc := "()V" } : Jvm.MethodName)) ∈ lw_all := lw_g (lw_at lw_m6 132 rfl) rfl
theorem q1386 : (Jvm.Cond.code ({ cls := "HutForShowModel", name := "layBack", desc := "()V" } : Jvm.MethodName) prog_20_method_21_code (2 : Nat) (Option.none : Option Jvm.ClassFile.FieldType)) ∈ lw_all := lw_g (lw_at lw_m6 133 rfl) rfl
theorem q1388 : (Jvm.Cond.instanceMethod ({ cls := "HutForShowModel", name := "lost", desc := "(I)I" } : Jvm.MethodName)) ∈ lw_all := lw_g (lw_at lw_m6 135 rfl) rfl
theorem q1389 : (Jvm.Cond.selects "HutForShowModel" ({ cls := "HutForShowModel", name := "lost", desc := "(I)I" } : Jvm.MethodName) ({ cls := "HutForShowModel", name := "lost", desc := "(I)I" } : Jvm.MethodName)) ∈ lw_all := lw_g (lw_at lw_m6 136 rfl) rfl
theorem q1390 : (Jvm.Cond.code ({ cls := "HutForShowModel", name := "lost", desc := "(I)I" } : Jvm.MethodName) prog_20_method_42_code (2 : Nat) (Option.some Jvm.ClassFile.FieldType.int)) ∈ lw_all := lw_g (lw_at lw_m6 137 rfl) rfl
theorem q1391 : (Jvm.Cond.methodLink "HutForShowModel" (279 : Nat) ({ cls := "HutForShowModel", name := "sticksBehind", desc := "(IZ)I" } : Jvm.MethodName)) ∈ lw_all := lw_g (lw_at lw_m6 138 rfl) rfl
theorem q1392 : (Jvm.Cond.privateMethod ({ cls := "HutForShowModel", name := "sticksBehind", desc := "(IZ)I" } : Jvm.MethodName)) ∈ lw_tbl := lw_at lw_m6 139 rfl
theorem q1393 : (Jvm.Cond.instanceMethod ({ cls := "HutForShowModel", name := "sticksBehind", desc := "(IZ)I" } : Jvm.MethodName)) ∈ lw_all := lw_g (lw_at lw_m6 140 rfl) rfl
theorem q1394 : (Jvm.Cond.code ({ cls := "HutForShowModel", name := "sticksBehind", desc := "(IZ)I" } : Jvm.MethodName) prog_20_method_41_code (5 : Nat) (Option.some Jvm.ClassFile.FieldType.int)) ∈ lw_all := lw_g (lw_at lw_m6 141 rfl) rfl
theorem q1396 : (Jvm.Cond.instanceMethod ({ cls := "HutForShowModel", name := "uneven", desc := "(JI)I" } : Jvm.MethodName)) ∈ lw_all := lw_g (lw_at lw_m6 143 rfl) rfl
theorem q1397 : (Jvm.Cond.selects "HutForShowModel" ({ cls := "HutForShowModel", name := "uneven", desc := "(JI)I" } : Jvm.MethodName) ({ cls := "HutForShowModel", name := "uneven", desc := "(JI)I" } : Jvm.MethodName)) ∈ lw_all := lw_g (lw_at lw_m6 144 rfl) rfl
theorem q1398 : (Jvm.Cond.code ({ cls := "HutForShowModel", name := "uneven", desc := "(JI)I" } : Jvm.MethodName) prog_20_method_45_code (6 : Nat) (Option.some Jvm.ClassFile.FieldType.int)) ∈ lw_all := lw_g (lw_at lw_m6 145 rfl) rfl
theorem q1399 : (Jvm.Cond.methodLink "HutForShowModel" (285 : Nat) ({ cls := "HutForShowModel", name := "take", desc := "(JI)I" } : Jvm.MethodName)) ∈ lw_all := lw_g (lw_at lw_m6 146 rfl) rfl
theorem q1400 : (Jvm.Cond.privateMethod ({ cls := "HutForShowModel", name := "take", desc := "(JI)I" } : Jvm.MethodName)) ∈ lw_tbl := lw_at lw_m6 147 rfl
theorem q1401 : (Jvm.Cond.instanceMethod ({ cls := "HutForShowModel", name := "take", desc := "(JI)I" } : Jvm.MethodName)) ∈ lw_all := lw_g (lw_at lw_m6 148 rfl) rfl
theorem q1402 : (Jvm.Cond.code ({ cls := "HutForShowModel", name := "take", desc := "(JI)I" } : Jvm.MethodName) prog_20_method_43_code (7 : Nat) (Option.some Jvm.ClassFile.FieldType.int)) ∈ lw_all := lw_g (lw_at lw_m6 149 rfl) rfl
theorem q1403 : (Jvm.Cond.constantLong "HutForShowModel" (283 : Nat) (63 : Int64)) ∈ lw_all := lw_g (lw_at lw_m6 150 rfl) rfl
theorem q1404 : (Jvm.Cond.methodLink "HutForShowModel" (289 : Nat) ({ cls := "HutForShowModel", name := "unevenOf", desc := "(I)I" } : Jvm.MethodName)) ∈ lw_all := lw_g (lw_at lw_m6 151 rfl) rfl
theorem q1405 : (Jvm.Cond.privateMethod ({ cls := "HutForShowModel", name := "unevenOf", desc := "(I)I" } : Jvm.MethodName)) ∈ lw_tbl := lw_at lw_m6 152 rfl
theorem q1406 : (Jvm.Cond.instanceMethod ({ cls := "HutForShowModel", name := "unevenOf", desc := "(I)I" } : Jvm.MethodName)) ∈ lw_all := lw_g (lw_at lw_m6 153 rfl) rfl
theorem q1407 : (Jvm.Cond.code ({ cls := "HutForShowModel", name := "unevenOf", desc := "(I)I" } : Jvm.MethodName) prog_20_method_44_code (4 : Nat) (Option.some Jvm.ClassFile.FieldType.int)) ∈ lw_all := lw_g (lw_at lw_m6 154 rfl) rfl
theorem q1409 : (Jvm.Cond.instanceMethod ({ cls := "HutForShowModel", name := "evenest", desc := "(JII)I" } : Jvm.MethodName)) ∈ lw_all := lw_g (lw_at lw_m6 156 rfl) rfl
theorem q1410 : (Jvm.Cond.selects "HutForShowModel" ({ cls := "HutForShowModel", name := "evenest", desc := "(JII)I" } : Jvm.MethodName) ({ cls := "HutForShowModel", name := "evenest", desc := "(JII)I" } : Jvm.MethodName)) ∈ lw_all := lw_g (lw_at lw_m6 157 rfl) rfl
theorem q1411 : (Jvm.Cond.code ({ cls := "HutForShowModel", name := "evenest", desc := "(JII)I" } : Jvm.MethodName) prog_20_method_46_code (11 : Nat) (Option.some Jvm.ClassFile.FieldType.int)) ∈ lw_all := lw_g (lw_at lw_m6 158 rfl) rfl
theorem q1413 : (Jvm.Cond.instanceMethod ({ cls := "HutForShowModel", name := "guest", desc := "(II)I" } : Jvm.MethodName)) ∈ lw_all := lw_g (lw_at lw_m6 160 rfl) rfl
theorem q1414 : (Jvm.Cond.selects "HutForShowModel" ({ cls := "HutForShowModel", name := "guest", desc := "(II)I" } : Jvm.MethodName) ({ cls := "HutForShowModel", name := "guest", desc := "(II)I" } : Jvm.MethodName)) ∈ lw_all := lw_g (lw_at lw_m6 161 rfl) rfl
theorem q1415 : (Jvm.Cond.code ({ cls := "HutForShowModel", name := "guest", desc := "(II)I" } : Jvm.MethodName) prog_20_method_47_code (3 : Nat) (Option.some Jvm.ClassFile.FieldType.int)) ∈ lw_all := lw_g (lw_at lw_m6 162 rfl) rfl
theorem q1417 : (Jvm.Cond.instanceMethod ({ cls := "HutForShowModel", name := "held", desc := "(I)I" } : Jvm.MethodName)) ∈ lw_all := lw_g (lw_at lw_m6 164 rfl) rfl
theorem q1418 : (Jvm.Cond.selects "HutForShowModel" ({ cls := "HutForShowModel", name := "held", desc := "(I)I" } : Jvm.MethodName) ({ cls := "HutForShowModel", name := "held", desc := "(I)I" } : Jvm.MethodName)) ∈ lw_all := lw_g (lw_at lw_m6 165 rfl) rfl
theorem q1419 : (Jvm.Cond.code ({ cls := "HutForShowModel", name := "held", desc := "(I)I" } : Jvm.MethodName) prog_20_method_49_code (4 : Nat) (Option.some Jvm.ClassFile.FieldType.int)) ∈ lw_all := lw_g (lw_at lw_m6 166 rfl) rfl
theorem q1420 : (Jvm.Cond.methodLink "HutForShowModel" (295 : Nat) ({ cls := "HutForShowModel", name := "staying", desc := "(I)I" } : Jvm.MethodName)) ∈ lw_all := lw_g (lw_at lw_m6 167 rfl) rfl
theorem q1421 : (Jvm.Cond.privateMethod ({ cls := "HutForShowModel", name := "staying", desc := "(I)I" } : Jvm.MethodName)) ∈ lw_tbl := lw_at lw_m6 168 rfl
theorem q1422 : (Jvm.Cond.instanceMethod ({ cls := "HutForShowModel", name := "staying", desc := "(I)I" } : Jvm.MethodName)) ∈ lw_all := lw_g (lw_at lw_m6 169 rfl) rfl
theorem q1423 : (Jvm.Cond.code ({ cls := "HutForShowModel", name := "staying", desc := "(I)I" } : Jvm.MethodName) prog_20_method_48_code (6 : Nat) (Option.some Jvm.ClassFile.FieldType.int)) ∈ lw_all := lw_g (lw_at lw_m6 170 rfl) rfl
theorem q1425 : (Jvm.Cond.instanceMethod ({ cls := "HutForShowModel", name := "row", desc := "(II)I" } : Jvm.MethodName)) ∈ lw_all := lw_g (lw_at lw_m6 172 rfl) rfl
theorem q1426 : (Jvm.Cond.selects "HutForShowModel" ({ cls := "HutForShowModel", name := "row", desc := "(II)I" } : Jvm.MethodName) ({ cls := "HutForShowModel", name := "row", desc := "(II)I" } : Jvm.MethodName)) ∈ lw_all := lw_g (lw_at lw_m6 173 rfl) rfl
theorem q1427 : (Jvm.Cond.code ({ cls := "HutForShowModel", name := "row", desc := "(II)I" } : Jvm.MethodName) prog_20_method_50_code (8 : Nat) (Option.some Jvm.ClassFile.FieldType.int)) ∈ lw_all := lw_g (lw_at lw_m6 174 rfl) rfl
theorem q1429 : (Jvm.Cond.instanceMethod ({ cls := "HutForShowModel", name := "seen", desc := "(III)I" } : Jvm.MethodName)) ∈ lw_all := lw_g (lw_at lw_m6 176 rfl) rfl
theorem q1430 : (Jvm.Cond.selects "HutForShowModel" ({ cls := "HutForShowModel", name := "seen", desc := "(III)I" } : Jvm.MethodName) ({ cls := "HutForShowModel", name := "seen", desc := "(III)I" } : Jvm.MethodName)) ∈ lw_all := lw_g (lw_at lw_m6 177 rfl) rfl
theorem q1431 : (Jvm.Cond.code ({ cls := "HutForShowModel", name := "seen", desc := "(III)I" } : Jvm.MethodName) prog_20_method_51_code (4 : Nat) (Option.some Jvm.ClassFile.FieldType.int)) ∈ lw_all := lw_g (lw_at lw_m6 178 rfl) rfl
theorem q1433 : (Jvm.Cond.instanceMethod ({ cls := "HutForShowModel", name := "whose", desc := "(I)I" } : Jvm.MethodName)) ∈ lw_all := lw_g (lw_at lw_m6 180 rfl) rfl
theorem q1434 : (Jvm.Cond.selects "HutForShowModel" ({ cls := "HutForShowModel", name := "whose", desc := "(I)I" } : Jvm.MethodName) ({ cls := "HutForShowModel", name := "whose", desc := "(I)I" } : Jvm.MethodName)) ∈ lw_all := lw_g (lw_at lw_m6 181 rfl) rfl
theorem q1435 : (Jvm.Cond.code ({ cls := "HutForShowModel", name := "whose", desc := "(I)I" } : Jvm.MethodName) prog_20_method_53_code (3 : Nat) (Option.some Jvm.ClassFile.FieldType.int)) ∈ lw_all := lw_g (lw_at lw_m6 182 rfl) rfl
theorem q1436 : (Jvm.Cond.methodLink "HutForShowModel" (301 : Nat) ({ cls := "HutForShowModel", name := "firstOf", desc := "(I)I" } : Jvm.MethodName)) ∈ lw_all := lw_g (lw_at lw_m6 183 rfl) rfl
theorem q1437 : (Jvm.Cond.privateMethod ({ cls := "HutForShowModel", name := "firstOf", desc := "(I)I" } : Jvm.MethodName)) ∈ lw_tbl := lw_at lw_m6 184 rfl
theorem q1438 : (Jvm.Cond.instanceMethod ({ cls := "HutForShowModel", name := "firstOf", desc := "(I)I" } : Jvm.MethodName)) ∈ lw_all := lw_g (lw_at lw_m6 185 rfl) rfl
theorem q1439 : (Jvm.Cond.code ({ cls := "HutForShowModel", name := "firstOf", desc := "(I)I" } : Jvm.MethodName) prog_20_method_52_code (4 : Nat) (Option.some Jvm.ClassFile.FieldType.int)) ∈ lw_all := lw_g (lw_at lw_m6 186 rfl) rfl
theorem q1441 : (Jvm.Cond.instanceMethod ({ cls := "HutForShowModel", name := "thieves", desc := "(I)I" } : Jvm.MethodName)) ∈ lw_all := lw_g (lw_at lw_m6 188 rfl) rfl
theorem q1442 : (Jvm.Cond.selects "HutForShowModel" ({ cls := "HutForShowModel", name := "thieves", desc := "(I)I" } : Jvm.MethodName) ({ cls := "HutForShowModel", name := "thieves", desc := "(I)I" } : Jvm.MethodName)) ∈ lw_all := lw_g (lw_at lw_m6 189 rfl) rfl
theorem q1443 : (Jvm.Cond.code ({ cls := "HutForShowModel", name := "thieves", desc := "(I)I" } : Jvm.MethodName) prog_20_method_54_code (6 : Nat) (Option.some Jvm.ClassFile.FieldType.int)) ∈ lw_all := lw_g (lw_at lw_m6 190 rfl) rfl
theorem q1445 : (Jvm.Cond.instanceMethod ({ cls := "HutForShowModel", name := "gains", desc := "(II)I" } : Jvm.MethodName)) ∈ lw_all := lw_g (lw_at lw_m6 192 rfl) rfl
theorem q1446 : (Jvm.Cond.selects "HutForShowModel" ({ cls := "HutForShowModel", name := "gains", desc := "(II)I" } : Jvm.MethodName) ({ cls := "HutForShowModel", name := "gains", desc := "(II)I" } : Jvm.MethodName)) ∈ lw_all := lw_g (lw_at lw_m6 193 rfl) rfl
theorem q1447 : (Jvm.Cond.code ({ cls := "HutForShowModel", name := "gains", desc := "(II)I" } : Jvm.MethodName) prog_20_method_58_code (3 : Nat) (Option.some Jvm.ClassFile.FieldType.int)) ∈ lw_all := lw_g (lw_at lw_m6 194 rfl) rfl
theorem q1448 : (Jvm.Cond.methodLink "HutForShowModel" (307 : Nat) ({ cls := "HutForShowModel", name := "isSet", desc := "(I)Z" } : Jvm.MethodName)) ∈ lw_all := lw_g (lw_at lw_m6 195 rfl) rfl
theorem q1449 : (Jvm.Cond.privateMethod ({ cls := "HutForShowModel", name := "isSet", desc := "(I)Z" } : Jvm.MethodName)) ∈ lw_tbl := lw_at lw_m6 196 rfl
theorem q1450 : (Jvm.Cond.instanceMethod ({ cls := "HutForShowModel", name := "isSet", desc := "(I)Z" } : Jvm.MethodName)) ∈ lw_all := lw_g (lw_at lw_m6 197 rfl) rfl
theorem q1451 : (Jvm.Cond.code ({ cls := "HutForShowModel", name := "isSet", desc := "(I)Z" } : Jvm.MethodName) prog_20_method_57_code (2 : Nat) (Option.some Jvm.ClassFile.FieldType.boolean)) ∈ lw_all := lw_g (lw_at lw_m6 198 rfl) rfl
theorem q1452 : (Jvm.Cond.methodLink "HutForShowModel" (310 : Nat) ({ cls := "HutForShowModel", name := "gainsOf", desc := "(II)I" } : Jvm.MethodName)) ∈ lw_all := lw_g (lw_at lw_m6 199 rfl) rfl
theorem q1453 : (Jvm.Cond.privateMethod ({ cls := "HutForShowModel", name := "gainsOf", desc := "(II)I" } : Jvm.MethodName)) ∈ lw_tbl := lw_at lw_m6 200 rfl
theorem q1454 : (Jvm.Cond.instanceMethod ({ cls := "HutForShowModel", name := "gainsOf", desc := "(II)I" } : Jvm.MethodName)) ∈ lw_all := lw_g (lw_at lw_m6 201 rfl) rfl
theorem q1455 : (Jvm.Cond.code ({ cls := "HutForShowModel", name := "gainsOf", desc := "(II)I" } : Jvm.MethodName) prog_20_method_56_code (6 : Nat) (Option.some Jvm.ClassFile.FieldType.int)) ∈ lw_all := lw_g (lw_at lw_m6 202 rfl) rfl
theorem q1456 : (Jvm.Cond.methodLink "HutForShowModel" (304 : Nat) ({ cls := "HutForShowModel", name := "nearest", desc := "(I)I" } : Jvm.MethodName)) ∈ lw_all := lw_g (lw_at lw_m6 203 rfl) rfl
theorem q1457 : (Jvm.Cond.privateMethod ({ cls := "HutForShowModel", name := "nearest", desc := "(I)I" } : Jvm.MethodName)) ∈ lw_tbl := lw_at lw_m6 204 rfl
theorem q1458 : (Jvm.Cond.instanceMethod ({ cls := "HutForShowModel", name := "nearest", desc := "(I)I" } : Jvm.MethodName)) ∈ lw_all := lw_g (lw_at lw_m6 205 rfl) rfl
theorem q1459 : (Jvm.Cond.code ({ cls := "HutForShowModel", name := "nearest", desc := "(I)I" } : Jvm.MethodName) prog_20_method_55_code (4 : Nat) (Option.some Jvm.ClassFile.FieldType.int)) ∈ lw_all := lw_g (lw_at lw_m6 206 rfl) rfl
theorem q1460 : (Jvm.Cond.constant "HutForShowModel" (313 : Nat) (-2147483648 : Int32)) ∈ lw_all := lw_g (lw_at lw_m6 207 rfl) rfl
theorem q1462 : (Jvm.Cond.instanceMethod ({ cls := "HutForShowModel", name := "even", desc := "(I)I" } : Jvm.MethodName)) ∈ lw_all := lw_g (lw_at lw_m6 209 rfl) rfl
theorem q1463 : (Jvm.Cond.selects "HutForShowModel" ({ cls := "HutForShowModel", name := "even", desc := "(I)I" } : Jvm.MethodName) ({ cls := "HutForShowModel", name := "even", desc := "(I)I" } : Jvm.MethodName)) ∈ lw_all := lw_g (lw_at lw_m6 210 rfl) rfl
theorem q1464 : (Jvm.Cond.code ({ cls := "HutForShowModel", name := "even", desc := "(I)I" } : Jvm.MethodName) prog_20_method_60_code (4 : Nat) (Option.some Jvm.ClassFile.FieldType.int)) ∈ lw_all := lw_g (lw_at lw_m6 211 rfl) rfl
theorem q1465 : (Jvm.Cond.methodLink "HutForShowModel" (314 : Nat) ({ cls := "HutForShowModel", name := "turnsOf", desc := "(I)I" } : Jvm.MethodName)) ∈ lw_all := lw_g (lw_at lw_m6 212 rfl) rfl
theorem q1466 : (Jvm.Cond.privateMethod ({ cls := "HutForShowModel", name := "turnsOf", desc := "(I)I" } : Jvm.MethodName)) ∈ lw_tbl := lw_at lw_m6 213 rfl
theorem q1467 : (Jvm.Cond.instanceMethod ({ cls := "HutForShowModel", name := "turnsOf", desc := "(I)I" } : Jvm.MethodName)) ∈ lw_all := lw_g (lw_at lw_m6 214 rfl) rfl
theorem q1468 : (Jvm.Cond.code ({ cls := "HutForShowModel", name := "turnsOf", desc := "(I)I" } : Jvm.MethodName) prog_20_method_59_code (4 : Nat) (Option.some Jvm.ClassFile.FieldType.int)) ∈ lw_all := lw_g (lw_at lw_m6 215 rfl) rfl
theorem q1470 : (Jvm.Cond.instanceMethod ({ cls := "HutForShowModel", name := "ring", desc := "(I)I" } : Jvm.MethodName)) ∈ lw_all := lw_g (lw_at lw_m6 217 rfl) rfl
theorem q1471 : (Jvm.Cond.selects "HutForShowModel" ({ cls := "HutForShowModel", name := "ring", desc := "(I)I" } : Jvm.MethodName) ({ cls := "HutForShowModel", name := "ring", desc := "(I)I" } : Jvm.MethodName)) ∈ lw_all := lw_g (lw_at lw_m6 218 rfl) rfl
theorem q1472 : (Jvm.Cond.code ({ cls := "HutForShowModel", name := "ring", desc := "(I)I" } : Jvm.MethodName) prog_20_method_61_code (5 : Nat) (Option.some Jvm.ClassFile.FieldType.int)) ∈ lw_all := lw_g (lw_at lw_m6 219 rfl) rfl
theorem q1474 : (Jvm.Cond.instanceMethod ({ cls := "HutForShowModel", name := "chose", desc := "(IIIIZ)I" } : Jvm.MethodName)) ∈ lw_all := lw_g (lw_at lw_m6 221 rfl) rfl
theorem q1475 : (Jvm.Cond.selects "HutForShowModel" ({ cls := "HutForShowModel", name := "chose", desc := "(IIIIZ)I" } : Jvm.MethodName) ({ cls := "HutForShowModel", name := "chose", desc := "(IIIIZ)I" } : Jvm.MethodName)) ∈ lw_all := lw_g (lw_at lw_m6 222 rfl) rfl
theorem q1476 : (Jvm.Cond.code ({ cls := "HutForShowModel", name := "chose", desc := "(IIIIZ)I" } : Jvm.MethodName) prog_20_method_63_code (6 : Nat) (Option.some Jvm.ClassFile.FieldType.int)) ∈ lw_all := lw_g (lw_at lw_m6 223 rfl) rfl
theorem q1477 : (Jvm.Cond.methodLink "HutForShowModel" (317 : Nat) ({ cls := "HutForShowModel", name := "areShown", desc := "(IIII)Z" } : Jvm.MethodName)) ∈ lw_all := lw_g (lw_at lw_m6 224 rfl) rfl
theorem q1478 : (Jvm.Cond.static ({ cls := "HutForShowModel", name := "areShown", desc := "(IIII)Z" } : Jvm.MethodName)) ∈ lw_all := lw_g (lw_at lw_m6 225 rfl) rfl
theorem q1479 : (Jvm.Cond.code ({ cls := "HutForShowModel", name := "areShown", desc := "(IIII)Z" } : Jvm.MethodName) prog_20_method_62_code (4 : Nat) (Option.some Jvm.ClassFile.FieldType.boolean)) ∈ lw_all := lw_g (lw_at lw_m6 226 rfl) rfl
theorem q1481 : (Jvm.Cond.instanceMethod ({ cls := "HutForShowModel", name := "may", desc := "(I)I" } : Jvm.MethodName)) ∈ lw_all := lw_g (lw_at lw_m6 228 rfl) rfl
theorem q1482 : (Jvm.Cond.selects "HutForShowModel" ({ cls := "HutForShowModel", name := "may", desc := "(I)I" } : Jvm.MethodName) ({ cls := "HutForShowModel", name := "may", desc := "(I)I" } : Jvm.MethodName)) ∈ lw_all := lw_g (lw_at lw_m6 229 rfl) rfl
theorem q1483 : (Jvm.Cond.code ({ cls := "HutForShowModel", name := "may", desc := "(I)I" } : Jvm.MethodName) prog_20_method_65_code (6 : Nat) (Option.some Jvm.ClassFile.FieldType.int)) ∈ lw_all := lw_g (lw_at lw_m6 230 rfl) rfl
theorem q1484 : (Jvm.Cond.methodLink "HutForShowModel" (324 : Nat) ({ cls := "HutForShowModel", name := "mayBe", desc := "(II)Z" } : Jvm.MethodName)) ∈ lw_all := lw_g (lw_at lw_m6 231 rfl) rfl
theorem q1485 : (Jvm.Cond.privateMethod ({ cls := "HutForShowModel", name := "mayBe", desc := "(II)Z" } : Jvm.MethodName)) ∈ lw_tbl := lw_at lw_m6 232 rfl
theorem q1486 : (Jvm.Cond.instanceMethod ({ cls := "HutForShowModel", name := "mayBe", desc := "(II)Z" } : Jvm.MethodName)) ∈ lw_all := lw_g (lw_at lw_m6 233 rfl) rfl
theorem q1487 : (Jvm.Cond.code ({ cls := "HutForShowModel", name := "mayBe", desc := "(II)Z" } : Jvm.MethodName) prog_20_method_64_code (6 : Nat) (Option.some Jvm.ClassFile.FieldType.boolean)) ∈ lw_all := lw_g (lw_at lw_m6 234 rfl) rfl
theorem q1489 : (Jvm.Cond.instanceMethod ({ cls := "HutForShowModel", name := "pair", desc := "(IIII)I" } : Jvm.MethodName)) ∈ lw_all := lw_g (lw_at lw_m6 236 rfl) rfl
theorem q1490 : (Jvm.Cond.selects "HutForShowModel" ({ cls := "HutForShowModel", name := "pair", desc := "(IIII)I" } : Jvm.MethodName) ({ cls := "HutForShowModel", name := "pair", desc := "(IIII)I" } : Jvm.MethodName)) ∈ lw_all := lw_g (lw_at lw_m6 237 rfl) rfl
theorem q1491 : (Jvm.Cond.code ({ cls := "HutForShowModel", name := "pair", desc := "(IIII)I" } : Jvm.MethodName) prog_20_method_66_code (5 : Nat) (Option.some Jvm.ClassFile.FieldType.int)) ∈ lw_all := lw_g (lw_at lw_m6 238 rfl) rfl
theorem q1493 : (Jvm.Cond.instanceMethod ({ cls := "HutForShowModel", name := "parting", desc := "()I" } : Jvm.MethodName)) ∈ lw_all := lw_g (lw_at lw_m7 0 rfl) rfl
theorem q1494 : (Jvm.Cond.selects "HutForShowModel" ({ cls := "HutForShowModel", name := "parting", desc := "()I" } : Jvm.MethodName) ({ cls := "HutForShowModel", name := "parting", desc := "()I" } : Jvm.MethodName)) ∈ lw_all := lw_g (lw_at lw_m7 1 rfl) rfl
theorem q1495 : (Jvm.Cond.code ({ cls := "HutForShowModel", name := "parting", desc := "()I" } : Jvm.MethodName) prog_20_method_67_code (8 : Nat) (Option.some Jvm.ClassFile.FieldType.int)) ∈ lw_all := lw_g (lw_at lw_m7 2 rfl) rfl
theorem q1497 : (Jvm.Cond.instanceMethod ({ cls := "HutForShowModel", name := "spot", desc := "(II)I" } : Jvm.MethodName)) ∈ lw_all := lw_g (lw_at lw_m7 4 rfl) rfl
theorem q1498 : (Jvm.Cond.selects "HutForShowModel" ({ cls := "HutForShowModel", name := "spot", desc := "(II)I" } : Jvm.MethodName) ({ cls := "HutForShowModel", name := "spot", desc := "(II)I" } : Jvm.MethodName)) ∈ lw_all := lw_g (lw_at lw_m7 5 rfl) rfl
theorem q1499 : (Jvm.Cond.code ({ cls := "HutForShowModel", name := "spot", desc := "(II)I" } : Jvm.MethodName) prog_20_method_68_code (3 : Nat) (Option.some Jvm.ClassFile.FieldType.int)) ∈ lw_all := lw_g (lw_at lw_m7 6 rfl) rfl
theorem q1501 : (Jvm.Cond.instanceMethod ({ cls := "HutForShowModel", name := "room", desc := "()I" } : Jvm.MethodName)) ∈ lw_all := lw_g (lw_at lw_m7 8 rfl) rfl
theorem q1502 : (Jvm.Cond.selects "HutForShowModel" ({ cls := "HutForShowModel", name := "room", desc := "()I" } : Jvm.MethodName) ({ cls := "HutForShowModel", name := "room", desc := "()I" } : Jvm.MethodName)) ∈ lw_all := lw_g (lw_at lw_m7 9 rfl) rfl
theorem q1503 : (Jvm.Cond.code ({ cls := "HutForShowModel", name := "room", desc := "()I" } : Jvm.MethodName) prog_20_method_71_code (6 : Nat) (Option.some Jvm.ClassFile.FieldType.int)) ∈ lw_all := lw_g (lw_at lw_m7 10 rfl) rfl
theorem q1504 : (Jvm.Cond.methodLink "HutForShowModel" (333 : Nat) ({ cls := "HutForShowModel", name := "bits", desc := "(I)I" } : Jvm.MethodName)) ∈ lw_all := lw_g (lw_at lw_m7 11 rfl) rfl
theorem q1505 : (Jvm.Cond.static ({ cls := "HutForShowModel", name := "bits", desc := "(I)I" } : Jvm.MethodName)) ∈ lw_all := lw_g (lw_at lw_m7 12 rfl) rfl
theorem q1506 : (Jvm.Cond.code ({ cls := "HutForShowModel", name := "bits", desc := "(I)I" } : Jvm.MethodName) prog_20_method_70_code (3 : Nat) (Option.some Jvm.ClassFile.FieldType.int)) ∈ lw_all := lw_g (lw_at lw_m7 13 rfl) rfl
theorem q1507 : (Jvm.Cond.methodLink "HutForShowModel" (336 : Nat) ({ cls := "HutForShowModel", name := "apart", desc := "(II)I" } : Jvm.MethodName)) ∈ lw_all := lw_g (lw_at lw_m7 14 rfl) rfl
theorem q1508 : (Jvm.Cond.privateMethod ({ cls := "HutForShowModel", name := "apart", desc := "(II)I" } : Jvm.MethodName)) ∈ lw_tbl := lw_at lw_m7 15 rfl
theorem q1509 : (Jvm.Cond.instanceMethod ({ cls := "HutForShowModel", name := "apart", desc := "(II)I" } : Jvm.MethodName)) ∈ lw_all := lw_g (lw_at lw_m7 16 rfl) rfl
theorem q1510 : (Jvm.Cond.code ({ cls := "HutForShowModel", name := "apart", desc := "(II)I" } : Jvm.MethodName) prog_20_method_69_code (3 : Nat) (Option.some Jvm.ClassFile.FieldType.int)) ∈ lw_all := lw_g (lw_at lw_m7 17 rfl) rfl
theorem q1512 : (Jvm.Cond.instanceMethod ({ cls := "HutForShowModel", name := "trip", desc := "(I)I" } : Jvm.MethodName)) ∈ lw_all := lw_g (lw_at lw_m7 19 rfl) rfl
theorem q1513 : (Jvm.Cond.selects "HutForShowModel" ({ cls := "HutForShowModel", name := "trip", desc := "(I)I" } : Jvm.MethodName) ({ cls := "HutForShowModel", name := "trip", desc := "(I)I" } : Jvm.MethodName)) ∈ lw_all := lw_g (lw_at lw_m7 20 rfl) rfl
theorem q1514 : (Jvm.Cond.code ({ cls := "HutForShowModel", name := "trip", desc := "(I)I" } : Jvm.MethodName) prog_20_method_72_code (8 : Nat) (Option.some Jvm.ClassFile.FieldType.int)) ∈ lw_all := lw_g (lw_at lw_m7 21 rfl) rfl
theorem q1516 : (Jvm.Cond.instanceMethod ({ cls := "HutForShowModel", name := "count", desc := "(I)I" } : Jvm.MethodName)) ∈ lw_all := lw_g (lw_at lw_m7 23 rfl) rfl
theorem q1517 : (Jvm.Cond.selects "HutForShowModel" ({ cls := "HutForShowModel", name := "count", desc := "(I)I" } : Jvm.MethodName) ({ cls := "HutForShowModel", name := "count", desc := "(I)I" } : Jvm.MethodName)) ∈ lw_all := lw_g (lw_at lw_m7 24 rfl) rfl
theorem q1518 : (Jvm.Cond.code ({ cls := "HutForShowModel", name := "count", desc := "(I)I" } : Jvm.MethodName) prog_20_method_73_code (2 : Nat) (Option.some Jvm.ClassFile.FieldType.int)) ∈ lw_all := lw_g (lw_at lw_m7 25 rfl) rfl
theorem in_X7 : ∀ w ∈ wsX70, w ∈ lw_all := lw_in wsX70 [1106, 1108, 1110, 1112, 1114, 1116, 1118, 1120, 1122, 1124, 1126, 1128, 1130, 1132, 1134, 1136, 1138, 1140, 1142, 1144, 1146, 1148, 1150, 1152, 1154, 1156, 1158, 1160, 1162, 1164, 1166, 1168, 1170, 1172, 1174, 1176, 1178, 1180, 1182, 1184, 1186, 1188, 1190, 1192, 1194, 1196, 1198, 1200, 1202, 1204] (by decide +kernel) (by decide +kernel)
/-! HutForShow$Place -/
def RX8 : String := "HutForShow$Place"
def TX8 : u_T := fun k => match k with
  | 0 => ("HutForShow$Place", "x", "I", true)
  | _ => ("HutForShow$Place", "y", "I", true)
def tyX8 : Nat → FieldType := fun k => match k with
  | 0 => .int
  | _ => .int
abbrev wsX80 : List Cond := u_ws RX8 TX8 2
theorem nmX8 : ∀ a, a < 2 → ∀ b, b < 2 → a ≠ b → (TX8 a).2.1 ≠ (TX8 b).2.1 := by decide +kernel
theorem tyX8_ok : ∀ k, k < 2 → parseFieldDescriptor (TX8 k).2.2.1 = some (tyX8 k) := by decide +kernel
abbrev cX8_init : ByteArray := prog_11_method_1_code
def yX8_init : MethodName := ⟨RX8, "<init>", "(II)V"⟩
abbrev cX8_far : ByteArray := prog_11_method_2_code
def yX8_far : MethodName := ⟨RX8, "far", "(LHutForShow$Place;)I"⟩
theorem q62 : (Jvm.Cond.initialized "HutForShow$Place") ∈ lw_all := lw_g (lw_at lw_m1 9 rfl) rfl
theorem q322 : (Jvm.Cond.instantiable "HutForShow$Place" (2 : Nat)) ∈ lw_all := lw_g (lw_at lw_m2 29 rfl) rfl
theorem q324 : (Jvm.Cond.instanceMethod ({ cls := "HutForShow$Place", name := "<init>", desc := "(II)V" } : Jvm.MethodName)) ∈ lw_all := lw_g (lw_at lw_m2 31 rfl) rfl
theorem q325 : (Jvm.Cond.code ({ cls := "HutForShow$Place", name := "<init>", desc := "(II)V" } : Jvm.MethodName) prog_11_method_1_code (3 : Nat) (Option.none : Option Jvm.ClassFile.FieldType)) ∈ lw_all := lw_g (lw_at lw_m2 32 rfl) rfl
theorem q326 : (Jvm.Cond.methodLink "HutForShow$Place" (1 : Nat) ({ cls := "java/lang/Object", name := "<init>", desc := "()V" } : Jvm.MethodName)) ∈ lw_all := lw_g (lw_at lw_m2 33 rfl) rfl
theorem q327 : (Jvm.Cond.fieldLink "HutForShow$Place" (7 : Nat) "HutForShow$Place" "x" "I") ∈ lw_all := lw_g (lw_at lw_m2 34 rfl) rfl
theorem q328 : (Jvm.Cond.fieldLink "HutForShow$Place" (13 : Nat) "HutForShow$Place" "y" "I") ∈ lw_all := lw_g (lw_at lw_m2 35 rfl) rfl
theorem q329 : (Jvm.Cond.laysFinal "HutForShow$Place" "HutForShow$Place" "x" "I") ∈ lw_all := lw_g (lw_at lw_m2 36 rfl) rfl
theorem q330 : (Jvm.Cond.soleField "HutForShow$Place" "x") ∈ lw_all := lw_g (lw_at lw_m2 37 rfl) rfl
theorem q331 : (Jvm.Cond.laysFinal "HutForShow$Place" "HutForShow$Place" "y" "I") ∈ lw_all := lw_g (lw_at lw_m2 38 rfl) rfl
theorem q332 : (Jvm.Cond.soleField "HutForShow$Place" "y") ∈ lw_all := lw_g (lw_at lw_m2 39 rfl) rfl
theorem q333 : (Jvm.Cond.superclass "HutForShow$Place" "java/lang/Object") ∈ lw_all := lw_g (lw_at lw_m2 40 rfl) rfl
theorem q343 : (Jvm.Cond.instanceMethod ({ cls := "HutForShow$Place", name := "far", desc := "(LHutForShow$Place;)I" } : Jvm.MethodName)) ∈ lw_all := lw_g (lw_at lw_m2 50 rfl) rfl
theorem q344 : (Jvm.Cond.selects "HutForShow$Place" ({ cls := "HutForShow$Place", name := "far", desc := "(LHutForShow$Place;)I" } : Jvm.MethodName) ({ cls := "HutForShow$Place", name := "far", desc := "(LHutForShow$Place;)I" } : Jvm.MethodName)) ∈ lw_all := lw_g (lw_at lw_m2 51 rfl) rfl
theorem q345 : (Jvm.Cond.code ({ cls := "HutForShow$Place", name := "far", desc := "(LHutForShow$Place;)I" } : Jvm.MethodName) prog_11_method_2_code (2 : Nat) (Option.some Jvm.ClassFile.FieldType.int)) ∈ lw_all := lw_g (lw_at lw_m2 52 rfl) rfl
theorem q346 : (Jvm.Cond.methodLink "HutForShow$Place" (16 : Nat) ({ cls := "java/lang/Math", name := "abs", desc := "(I)I" } : Jvm.MethodName)) ∈ lw_all := lw_g (lw_at lw_m2 53 rfl) rfl
theorem in_X8 : ∀ w ∈ wsX80, w ∈ lw_all := lw_in wsX80 [329, 331] (by decide +kernel) (by decide +kernel)
/-! java/lang/Math -/
def RJ0 : String := "java/lang/Math"
abbrev cJ0_abs : ByteArray := prog_23_method_59_code
def yJ0_abs : MethodName := ⟨RJ0, "abs", "(I)I"⟩
abbrev cJ0_max : ByteArray := prog_23_method_65_code
def yJ0_max : MethodName := ⟨RJ0, "max", "(II)I"⟩
abbrev cJ0_min : ByteArray := prog_23_method_69_code
def yJ0_min : MethodName := ⟨RJ0, "min", "(II)I"⟩
theorem q63 : (Jvm.Cond.initialized "java/lang/Math") ∈ lw_all := lw_g (lw_at lw_m1 10 rfl) rfl
theorem q347 : (Jvm.Cond.static ({ cls := "java/lang/Math", name := "abs", desc := "(I)I" } : Jvm.MethodName)) ∈ lw_all := lw_g (lw_at lw_m2 54 rfl) rfl
theorem q348 : (Jvm.Cond.code ({ cls := "java/lang/Math", name := "abs", desc := "(I)I" } : Jvm.MethodName) prog_23_method_59_code (1 : Nat) (Option.some Jvm.ClassFile.FieldType.int)) ∈ lw_all := lw_g (lw_at lw_m2 55 rfl) rfl
theorem q458 : (Jvm.Cond.static ({ cls := "java/lang/Math", name := "max", desc := "(II)I" } : Jvm.MethodName)) ∈ lw_all := lw_g (lw_at lw_m2 165 rfl) rfl
theorem q459 : (Jvm.Cond.code ({ cls := "java/lang/Math", name := "max", desc := "(II)I" } : Jvm.MethodName) prog_23_method_65_code (2 : Nat) (Option.some Jvm.ClassFile.FieldType.int)) ∈ lw_all := lw_g (lw_at lw_m2 166 rfl) rfl
theorem q475 : (Jvm.Cond.static ({ cls := "java/lang/Math", name := "min", desc := "(II)I" } : Jvm.MethodName)) ∈ lw_all := lw_g (lw_at lw_m2 182 rfl) rfl
theorem q476 : (Jvm.Cond.code ({ cls := "java/lang/Math", name := "min", desc := "(II)I" } : Jvm.MethodName) prog_23_method_69_code (2 : Nat) (Option.some Jvm.ClassFile.FieldType.int)) ∈ lw_all := lw_g (lw_at lw_m2 183 rfl) rfl
/-! HutForShow$Thing -/
def RX9 : String := "HutForShow$Thing"
def TX9 : u_T := fun k => match k with
  | 0 => ("HutForShow$Thing", "colour", "I", true)
  | 1 => ("HutForShow$Thing", "size", "I", true)
  | _ => ("HutForShow$Thing", "mark", "I", true)
def tyX9 : Nat → FieldType := fun k => match k with
  | 0 => .int
  | 1 => .int
  | _ => .int
abbrev wsX90 : List Cond := u_ws RX9 TX9 3
theorem nmX9 : ∀ a, a < 3 → ∀ b, b < 3 → a ≠ b → (TX9 a).2.1 ≠ (TX9 b).2.1 := by decide +kernel
theorem tyX9_ok : ∀ k, k < 3 → parseFieldDescriptor (TX9 k).2.2.1 = some (tyX9 k) := by decide +kernel
abbrev cX9_init : ByteArray := prog_16_method_1_code
def yX9_init : MethodName := ⟨RX9, "<init>", "(III)V"⟩
abbrev cX9_isDearer : ByteArray := prog_16_method_2_code
def yX9_isDearer : MethodName := ⟨RX9, "isDearer", "(LHutForShow$Thing;)Z"⟩
theorem q64 : (Jvm.Cond.initialized "HutForShow$Thing") ∈ lw_all := lw_g (lw_at lw_m1 11 rfl) rfl
theorem q360 : (Jvm.Cond.instantiable "HutForShow$Thing" (3 : Nat)) ∈ lw_all := lw_g (lw_at lw_m2 67 rfl) rfl
theorem q362 : (Jvm.Cond.instanceMethod ({ cls := "HutForShow$Thing", name := "<init>", desc := "(III)V" } : Jvm.MethodName)) ∈ lw_all := lw_g (lw_at lw_m2 69 rfl) rfl
theorem q363 : (Jvm.Cond.code ({ cls := "HutForShow$Thing", name := "<init>", desc := "(III)V" } : Jvm.MethodName) prog_16_method_1_code (4 : Nat) (Option.none : Option Jvm.ClassFile.FieldType)) ∈ lw_all := lw_g (lw_at lw_m2 70 rfl) rfl
theorem q364 : (Jvm.Cond.methodLink "HutForShow$Thing" (1 : Nat) ({ cls := "java/lang/Object", name := "<init>", desc := "()V" } : Jvm.MethodName)) ∈ lw_all := lw_g (lw_at lw_m2 71 rfl) rfl
theorem q365 : (Jvm.Cond.fieldLink "HutForShow$Thing" (7 : Nat) "HutForShow$Thing" "colour" "I") ∈ lw_all := lw_g (lw_at lw_m2 72 rfl) rfl
theorem q369 : (Jvm.Cond.fieldLink "HutForShow$Thing" (13 : Nat) "HutForShow$Thing" "size" "I") ∈ lw_all := lw_g (lw_at lw_m2 76 rfl) rfl
theorem q372 : (Jvm.Cond.fieldLink "HutForShow$Thing" (16 : Nat) "HutForShow$Thing" "mark" "I") ∈ lw_all := lw_g (lw_at lw_m2 79 rfl) rfl
theorem q374 : (Jvm.Cond.laysFinal "HutForShow$Thing" "HutForShow$Thing" "colour" "I") ∈ lw_all := lw_g (lw_at lw_m2 81 rfl) rfl
theorem q375 : (Jvm.Cond.soleField "HutForShow$Thing" "colour") ∈ lw_all := lw_g (lw_at lw_m2 82 rfl) rfl
theorem q376 : (Jvm.Cond.laysFinal "HutForShow$Thing" "HutForShow$Thing" "size" "I") ∈ lw_all := lw_g (lw_at lw_m2 83 rfl) rfl
theorem q377 : (Jvm.Cond.soleField "HutForShow$Thing" "size") ∈ lw_all := lw_g (lw_at lw_m2 84 rfl) rfl
theorem q378 : (Jvm.Cond.laysFinal "HutForShow$Thing" "HutForShow$Thing" "mark" "I") ∈ lw_all := lw_g (lw_at lw_m2 85 rfl) rfl
theorem q379 : (Jvm.Cond.soleField "HutForShow$Thing" "mark") ∈ lw_all := lw_g (lw_at lw_m2 86 rfl) rfl
theorem q380 : (Jvm.Cond.superclass "HutForShow$Thing" "java/lang/Object") ∈ lw_all := lw_g (lw_at lw_m2 87 rfl) rfl
theorem q498 : (Jvm.Cond.instanceMethod ({ cls := "HutForShow$Thing", name := "isDearer", desc := "(LHutForShow$Thing;)Z" } : Jvm.MethodName)) ∈ lw_all := lw_g (lw_at lw_m2 205 rfl) rfl
theorem q499 : (Jvm.Cond.selects "HutForShow$Thing" ({ cls := "HutForShow$Thing", name := "isDearer", desc := "(LHutForShow$Thing;)Z" } : Jvm.MethodName) ({ cls := "HutForShow$Thing", name := "isDearer", desc := "(LHutForShow$Thing;)Z" } : Jvm.MethodName)) ∈ lw_all := lw_g (lw_at lw_m2 206 rfl) rfl
theorem q500 : (Jvm.Cond.code ({ cls := "HutForShow$Thing", name := "isDearer", desc := "(LHutForShow$Thing;)Z" } : Jvm.MethodName) prog_16_method_2_code (2 : Nat) (Option.some Jvm.ClassFile.FieldType.boolean)) ∈ lw_all := lw_g (lw_at lw_m2 207 rfl) rfl
theorem in_X9 : ∀ w ∈ wsX90, w ∈ lw_all := lw_in wsX90 [374, 376, 378] (by decide +kernel) (by decide +kernel)
/-! HutForShow$Told -/
def RX10 : String := "HutForShow$Told"
abbrev cX10_init : ByteArray := prog_17_method_1_code
def yX10_init : MethodName := ⟨RX10, "<init>", "(LHutForShow;)V"⟩
theorem q65 : (Jvm.Cond.initialized "HutForShow$Told") ∈ lw_all := lw_g (lw_at lw_m1 12 rfl) rfl
theorem q521 : (Jvm.Cond.instanceMethod ({ cls := "HutForShow$Told", name := "<init>", desc := "(LHutForShow;)V" } : Jvm.MethodName)) ∈ lw_all := lw_g (lw_at lw_m2 228 rfl) rfl
theorem q522 : (Jvm.Cond.code ({ cls := "HutForShow$Told", name := "<init>", desc := "(LHutForShow;)V" } : Jvm.MethodName) prog_17_method_1_code (2 : Nat) (Option.none : Option Jvm.ClassFile.FieldType)) ∈ lw_all := lw_g (lw_at lw_m2 229 rfl) rfl
theorem q523 : (Jvm.Cond.methodLink "HutForShow$Told" (7 : Nat) ({ cls := "java/lang/Object", name := "<init>", desc := "()V" } : Jvm.MethodName)) ∈ lw_all := lw_g (lw_at lw_m2 230 rfl) rfl
theorem q538 : (Jvm.Cond.fieldLink "HutForShow$Told" (1 : Nat) "HutForShow$Told" "this$0" "LHutForShow;") ∈ lw_all := lw_g (lw_at lw_m3 5 rfl) rfl
theorem q548 : (Jvm.Cond.soleField "HutForShow$Told" "many") ∈ lw_all := lw_g (lw_at lw_m3 15 rfl) rfl
theorem q550 : (Jvm.Cond.soleField "HutForShow$Told" "this$0") ∈ lw_all := lw_g (lw_at lw_m3 17 rfl) rfl
theorem q575 : (Jvm.Cond.declares ({ cls := "HutForShow$Told", name := "line", desc := "(LHutForShow$Reader;)V" } : Jvm.MethodName)) ∈ lw_tbl := lw_at lw_m3 42 rfl
theorem q576 : (Jvm.Cond.sameMethod "HutForShow$Told" "HutForShow$Told" "line" "(LHutForShow$Reader;)V") ∈ lw_all := lw_g (lw_at lw_m3 43 rfl) rfl
theorem q781 : (Jvm.Cond.declares ({ cls := "HutForShow$Told", name := "most", desc := "()I" } : Jvm.MethodName)) ∈ lw_tbl := lw_at lw_m4 8 rfl
theorem q782 : (Jvm.Cond.sameMethod "HutForShow$Told" "HutForShow$Told" "most" "()I") ∈ lw_all := lw_g (lw_at lw_m4 9 rfl) rfl
/-! HutForShow$Habit -/
def RX11 : String := "HutForShow$Habit"
def TX11 : u_T := fun k => match k with
  | 0 => ("HutForShow$Told", "many", "I", false)
  | 1 => ("HutForShow$Told", "this$0", "LHutForShow;", true)
  | 2 => ("HutForShow$Habit", "acts", "[LHutForShow$Act;", true)
  | 3 => ("HutForShow$Habit", "tests", "[[LHutForShow$Test;", true)
  | 4 => ("HutForShow$Habit", "testMany", "[I", true)
  | _ => ("HutForShow$Habit", "this$0", "LHutForShow;", true)
def tyX11 : Nat → FieldType := fun k => match k with
  | 0 => .int
  | 1 => .object "HutForShow"
  | 2 => .array (.object "HutForShow$Act")
  | 3 => .array (.array (.object "HutForShow$Test"))
  | 4 => .array .int
  | _ => .object "HutForShow"
abbrev wsX110 : List Cond := u_ws RX11 TX11 6
-- two fields of one name: no nmX11
theorem tyX11_ok : ∀ k, k < 6 → parseFieldDescriptor (TX11 k).2.2.1 = some (tyX11 k) := by decide +kernel
abbrev cX11_act : ByteArray := prog_8_method_4_code
def yX11_act : MethodName := ⟨RX11, "act", "(LHutForShow$Wood;I)LHutForShow$Act;"⟩
abbrev cX11_init : ByteArray := prog_8_method_1_code
def yX11_init : MethodName := ⟨RX11, "<init>", "(LHutForShow;)V"⟩
abbrev cX11_line : ByteArray := prog_8_method_3_code
def yX11_line : MethodName := ⟨RX11, "line", "(LHutForShow$Reader;)V"⟩
abbrev cX11_most : ByteArray := prog_8_method_2_code
def yX11_most : MethodName := ⟨RX11, "most", "()I"⟩
theorem q66 : (Jvm.Cond.initialized "HutForShow$Habit") ∈ lw_all := lw_g (lw_at lw_m1 13 rfl) rfl
theorem q195 : (Jvm.Cond.fieldLinkNest "HutForShow$Habit" (58 : Nat) "HutForShow" "guard" "LHutForShow$Act;" "HutForShow") ∈ lw_tbl := lw_at lw_m1 142 rfl
theorem q419 : (Jvm.Cond.instanceMethod ({ cls := "HutForShow$Habit", name := "act", desc := "(LHutForShow$Wood;I)LHutForShow$Act;" } : Jvm.MethodName)) ∈ lw_all := lw_g (lw_at lw_m2 126 rfl) rfl
theorem q420 : (Jvm.Cond.selects "HutForShow$Habit" ({ cls := "HutForShow$Habit", name := "act", desc := "(LHutForShow$Wood;I)LHutForShow$Act;" } : Jvm.MethodName) ({ cls := "HutForShow$Habit", name := "act", desc := "(LHutForShow$Wood;I)LHutForShow$Act;" } : Jvm.MethodName)) ∈ lw_all := lw_g (lw_at lw_m2 127 rfl) rfl
theorem q421 : (Jvm.Cond.code ({ cls := "HutForShow$Habit", name := "act", desc := "(LHutForShow$Wood;I)LHutForShow$Act;" } : Jvm.MethodName) prog_8_method_4_code (6 : Nat) (Option.some (Jvm.ClassFile.FieldType.object "HutForShow$Act"))) ∈ lw_all := lw_g (lw_at lw_m2 128 rfl) rfl
theorem q422 : (Jvm.Cond.methodLink "HutForShow$Habit" (52 : Nat) ({ cls := "HutForShow$Test", name := "holds", desc := "(LHutForShow$Wood;I)Z" } : Jvm.MethodName)) ∈ lw_all := lw_g (lw_at lw_m2 129 rfl) rfl
theorem q516 : (Jvm.Cond.instantiable "HutForShow$Habit" (6 : Nat)) ∈ lw_all := lw_g (lw_at lw_m2 223 rfl) rfl
theorem q518 : (Jvm.Cond.instanceMethod ({ cls := "HutForShow$Habit", name := "<init>", desc := "(LHutForShow;)V" } : Jvm.MethodName)) ∈ lw_all := lw_g (lw_at lw_m2 225 rfl) rfl
theorem q519 : (Jvm.Cond.code ({ cls := "HutForShow$Habit", name := "<init>", desc := "(LHutForShow;)V" } : Jvm.MethodName) prog_8_method_1_code (2 : Nat) (Option.none : Option Jvm.ClassFile.FieldType)) ∈ lw_all := lw_g (lw_at lw_m2 226 rfl) rfl
theorem q520 : (Jvm.Cond.methodLinkNest "HutForShow$Habit" (9 : Nat) ({ cls := "HutForShow$Told", name := "<init>", desc := "(LHutForShow;)V" } : Jvm.MethodName) "HutForShow") ∈ lw_tbl := lw_at lw_m2 227 rfl
theorem q524 : (Jvm.Cond.classLink "HutForShow$Habit" (15 : Nat) "HutForShow$Act") ∈ lw_all := lw_g (lw_at lw_m2 231 rfl) rfl
theorem q525 : (Jvm.Cond.classLink "HutForShow$Habit" (21 : Nat) "[[LHutForShow$Test;") ∈ lw_all := lw_g (lw_at lw_m2 232 rfl) rfl
theorem q528 : (Jvm.Cond.fieldLink "HutForShow$Habit" (17 : Nat) "HutForShow$Habit" "acts" "[LHutForShow$Act;") ∈ lw_all := lw_g (lw_at lw_m2 235 rfl) rfl
theorem q529 : (Jvm.Cond.fieldLink "HutForShow$Habit" (23 : Nat) "HutForShow$Habit" "tests" "[[LHutForShow$Test;") ∈ lw_all := lw_g (lw_at lw_m2 236 rfl) rfl
theorem q530 : (Jvm.Cond.fieldLink "HutForShow$Habit" (26 : Nat) "HutForShow$Habit" "testMany" "[I") ∈ lw_all := lw_g (lw_at lw_m2 237 rfl) rfl
theorem q531 : (Jvm.Cond.fieldLink "HutForShow$Habit" (3 : Nat) "HutForShow$Habit" "this$0" "LHutForShow;") ∈ lw_all := lw_g (lw_at lw_m2 238 rfl) rfl
theorem q532 : (Jvm.Cond.fieldLink "HutForShow$Habit" (30 : Nat) "HutForShow$Habit" "many" "I") ∈ lw_all := lw_g (lw_at lw_m2 239 rfl) rfl
theorem q533 : (Jvm.Cond.sameField "HutForShow$Habit" "HutForShow$Told" "many" "I") ∈ lw_all := lw_g (lw_at lw_m3 0 rfl) rfl
theorem q539 : (Jvm.Cond.laysFinal "HutForShow$Habit" "HutForShow$Habit" "acts" "[LHutForShow$Act;") ∈ lw_all := lw_g (lw_at lw_m3 6 rfl) rfl
theorem q540 : (Jvm.Cond.soleField "HutForShow$Habit" "acts") ∈ lw_all := lw_g (lw_at lw_m3 7 rfl) rfl
theorem q541 : (Jvm.Cond.laysFinal "HutForShow$Habit" "HutForShow$Habit" "tests" "[[LHutForShow$Test;") ∈ lw_all := lw_g (lw_at lw_m3 8 rfl) rfl
theorem q542 : (Jvm.Cond.soleField "HutForShow$Habit" "tests") ∈ lw_all := lw_g (lw_at lw_m3 9 rfl) rfl
theorem q543 : (Jvm.Cond.laysFinal "HutForShow$Habit" "HutForShow$Habit" "testMany" "[I") ∈ lw_all := lw_g (lw_at lw_m3 10 rfl) rfl
theorem q544 : (Jvm.Cond.soleField "HutForShow$Habit" "testMany") ∈ lw_all := lw_g (lw_at lw_m3 11 rfl) rfl
theorem q545 : (Jvm.Cond.laysFinal "HutForShow$Habit" "HutForShow$Habit" "this$0" "LHutForShow;") ∈ lw_all := lw_g (lw_at lw_m3 12 rfl) rfl
theorem q546 : (Jvm.Cond.soleField "HutForShow$Habit" "this$0") ∈ lw_all := lw_g (lw_at lw_m3 13 rfl) rfl
theorem q547 : (Jvm.Cond.lays "HutForShow$Habit" "HutForShow$Told" "many" "I") ∈ lw_all := lw_g (lw_at lw_m3 14 rfl) rfl
theorem q549 : (Jvm.Cond.laysFinal "HutForShow$Habit" "HutForShow$Told" "this$0" "LHutForShow;") ∈ lw_all := lw_g (lw_at lw_m3 16 rfl) rfl
theorem q551 : (Jvm.Cond.superclass "HutForShow$Habit" "HutForShow$Told") ∈ lw_all := lw_g (lw_at lw_m3 18 rfl) rfl
theorem q577 : (Jvm.Cond.selects "HutForShow$Habit" ({ cls := "HutForShow$Told", name := "line", desc := "(LHutForShow$Reader;)V" } : Jvm.MethodName) ({ cls := "HutForShow$Habit", name := "line", desc := "(LHutForShow$Reader;)V" } : Jvm.MethodName)) ∈ lw_all := lw_g (lw_at lw_m3 44 rfl) rfl
theorem q578 : (Jvm.Cond.instanceMethod ({ cls := "HutForShow$Habit", name := "line", desc := "(LHutForShow$Reader;)V" } : Jvm.MethodName)) ∈ lw_all := lw_g (lw_at lw_m3 45 rfl) rfl
theorem q579 : (Jvm.Cond.code ({ cls := "HutForShow$Habit", name := "line", desc := "(LHutForShow$Reader;)V" } : Jvm.MethodName) prog_8_method_3_code (3 : Nat) (Option.none : Option Jvm.ClassFile.FieldType)) ∈ lw_all := lw_g (lw_at lw_m3 46 rfl) rfl
theorem q580 : (Jvm.Cond.methodLink "HutForShow$Habit" (34 : Nat) ({ cls := "HutForShow$Reader", name := "act", desc := "()LHutForShow$Act;" } : Jvm.MethodName)) ∈ lw_all := lw_g (lw_at lw_m3 47 rfl) rfl
theorem q742 : (Jvm.Cond.stringRef "HutForShow$Habit" (40 : Nat) "when") ∈ lw_tbl := lw_at lw_m3 209 rfl
theorem q743 : (Jvm.Cond.methodLink "HutForShow$Habit" (42 : Nat) ({ cls := "HutForShow$Reader", name := "skips", desc := "(Ljava/lang/String;)Z" } : Jvm.MethodName)) ∈ lw_all := lw_g (lw_at lw_m3 210 rfl) rfl
theorem q744 : (Jvm.Cond.methodLink "HutForShow$Habit" (46 : Nat) ({ cls := "HutForShow$Reader", name := "test", desc := "()LHutForShow$Test;" } : Jvm.MethodName)) ∈ lw_all := lw_g (lw_at lw_m3 211 rfl) rfl
theorem q767 : (Jvm.Cond.stringRef "HutForShow$Habit" (50 : Nat) "and") ∈ lw_tbl := lw_at lw_m3 234 rfl
theorem q783 : (Jvm.Cond.selects "HutForShow$Habit" ({ cls := "HutForShow$Told", name := "most", desc := "()I" } : Jvm.MethodName) ({ cls := "HutForShow$Habit", name := "most", desc := "()I" } : Jvm.MethodName)) ∈ lw_all := lw_g (lw_at lw_m4 10 rfl) rfl
theorem q784 : (Jvm.Cond.instanceMethod ({ cls := "HutForShow$Habit", name := "most", desc := "()I" } : Jvm.MethodName)) ∈ lw_all := lw_g (lw_at lw_m4 11 rfl) rfl
theorem q785 : (Jvm.Cond.code ({ cls := "HutForShow$Habit", name := "most", desc := "()I" } : Jvm.MethodName) prog_8_method_2_code (1 : Nat) (Option.some Jvm.ClassFile.FieldType.int)) ∈ lw_all := lw_g (lw_at lw_m4 12 rfl) rfl
theorem in_X11 : ∀ w ∈ wsX110, w ∈ lw_all := lw_in wsX110 [547, 549, 539, 541, 543, 545] (by decide +kernel) (by decide +kernel)
/-! java/lang/String -/
def RJ1 : String := "java/lang/String"
abbrev cJ1_length : ByteArray := prog_24_method_54_code
def yJ1_length : MethodName := ⟨RJ1, "length", "()I"⟩
abbrev cJ1_coder : ByteArray := prog_24_method_152_code
def yJ1_coder : MethodName := ⟨RJ1, "coder", "()B"⟩
abbrev cJ1_charAt : ByteArray := prog_24_method_56_code
def yJ1_charAt : MethodName := ⟨RJ1, "charAt", "(I)C"⟩
abbrev cJ1_isLatin1 : ByteArray := prog_24_method_154_code
def yJ1_isLatin1 : MethodName := ⟨RJ1, "isLatin1", "()Z"⟩
abbrev cJ1_checkIndex : ByteArray := prog_24_method_155_code
def yJ1_checkIndex : MethodName := ⟨RJ1, "checkIndex", "(II)V"⟩
theorem q67 : (Jvm.Cond.initialized "java/lang/String") ∈ lw_all := lw_g (lw_at lw_m1 14 rfl) rfl
theorem q594 : (Jvm.Cond.instanceMethod ({ cls := "java/lang/String", name := "length", desc := "()I" } : Jvm.MethodName)) ∈ lw_all := lw_g (lw_at lw_m3 61 rfl) rfl
theorem q595 : (Jvm.Cond.selects "java/lang/String" ({ cls := "java/lang/String", name := "length", desc := "()I" } : Jvm.MethodName) ({ cls := "java/lang/String", name := "length", desc := "()I" } : Jvm.MethodName)) ∈ lw_all := lw_g (lw_at lw_m3 62 rfl) rfl
theorem q596 : (Jvm.Cond.code ({ cls := "java/lang/String", name := "length", desc := "()I" } : Jvm.MethodName) prog_24_method_54_code (1 : Nat) (Option.some Jvm.ClassFile.FieldType.int)) ∈ lw_all := lw_g (lw_at lw_m3 63 rfl) rfl
theorem q597 : (Jvm.Cond.methodLink "java/lang/String" (335 : Nat) ({ cls := "java/lang/String", name := "coder", desc := "()B" } : Jvm.MethodName)) ∈ lw_all := lw_g (lw_at lw_m3 64 rfl) rfl
theorem q598 : (Jvm.Cond.instanceMethod ({ cls := "java/lang/String", name := "coder", desc := "()B" } : Jvm.MethodName)) ∈ lw_all := lw_g (lw_at lw_m3 65 rfl) rfl
theorem q599 : (Jvm.Cond.selects "java/lang/String" ({ cls := "java/lang/String", name := "coder", desc := "()B" } : Jvm.MethodName) ({ cls := "java/lang/String", name := "coder", desc := "()B" } : Jvm.MethodName)) ∈ lw_all := lw_g (lw_at lw_m3 66 rfl) rfl
theorem q600 : (Jvm.Cond.code ({ cls := "java/lang/String", name := "coder", desc := "()B" } : Jvm.MethodName) prog_24_method_152_code (1 : Nat) (Option.some Jvm.ClassFile.FieldType.byte)) ∈ lw_all := lw_g (lw_at lw_m3 67 rfl) rfl
theorem q601 : (Jvm.Cond.fieldLink "java/lang/String" (38 : Nat) "java/lang/String" "COMPACT_STRINGS" "Z") ∈ lw_all := lw_g (lw_at lw_m3 68 rfl) rfl
theorem q602 : (Jvm.Cond.laysStatic "java/lang/String" "COMPACT_STRINGS" "Z") ∈ lw_tbl := lw_at lw_m3 69 rfl
theorem q604 : (Jvm.Cond.instanceMethod ({ cls := "java/lang/String", name := "charAt", desc := "(I)C" } : Jvm.MethodName)) ∈ lw_all := lw_g (lw_at lw_m3 71 rfl) rfl
theorem q605 : (Jvm.Cond.selects "java/lang/String" ({ cls := "java/lang/String", name := "charAt", desc := "(I)C" } : Jvm.MethodName) ({ cls := "java/lang/String", name := "charAt", desc := "(I)C" } : Jvm.MethodName)) ∈ lw_all := lw_g (lw_at lw_m3 72 rfl) rfl
theorem q606 : (Jvm.Cond.code ({ cls := "java/lang/String", name := "charAt", desc := "(I)C" } : Jvm.MethodName) prog_24_method_56_code (2 : Nat) (Option.some Jvm.ClassFile.FieldType.char)) ∈ lw_all := lw_g (lw_at lw_m3 73 rfl) rfl
theorem q607 : (Jvm.Cond.methodLink "java/lang/String" (492 : Nat) ({ cls := "java/lang/String", name := "isLatin1", desc := "()Z" } : Jvm.MethodName)) ∈ lw_all := lw_g (lw_at lw_m3 74 rfl) rfl
theorem q608 : (Jvm.Cond.instanceMethod ({ cls := "java/lang/String", name := "isLatin1", desc := "()Z" } : Jvm.MethodName)) ∈ lw_all := lw_g (lw_at lw_m3 75 rfl) rfl
theorem q609 : (Jvm.Cond.selects "java/lang/String" ({ cls := "java/lang/String", name := "isLatin1", desc := "()Z" } : Jvm.MethodName) ({ cls := "java/lang/String", name := "isLatin1", desc := "()Z" } : Jvm.MethodName)) ∈ lw_all := lw_g (lw_at lw_m3 76 rfl) rfl
theorem q610 : (Jvm.Cond.code ({ cls := "java/lang/String", name := "isLatin1", desc := "()Z" } : Jvm.MethodName) prog_24_method_154_code (1 : Nat) (Option.some Jvm.ClassFile.FieldType.boolean)) ∈ lw_all := lw_g (lw_at lw_m3 77 rfl) rfl
theorem q611 : (Jvm.Cond.methodLink "java/lang/String" (495 : Nat) ({ cls := "java/lang/StringLatin1", name := "charAt", desc := "([BI)C" } : Jvm.MethodName)) ∈ lw_all := lw_g (lw_at lw_m3 78 rfl) rfl
theorem q615 : (Jvm.Cond.static ({ cls := "java/lang/String", name := "checkIndex", desc := "(II)V" } : Jvm.MethodName)) ∈ lw_all := lw_g (lw_at lw_m3 82 rfl) rfl
theorem q616 : (Jvm.Cond.code ({ cls := "java/lang/String", name := "checkIndex", desc := "(II)V" } : Jvm.MethodName) prog_24_method_155_code (2 : Nat) (Option.none : Option Jvm.ClassFile.FieldType)) ∈ lw_all := lw_g (lw_at lw_m3 83 rfl) rfl
theorem q617 : (Jvm.Cond.fieldLink "java/lang/String" (1053 : Nat) "jdk/internal/util/Preconditions" "SIOOBE_FORMATTER" "Ljava/util/function/BiFunction;") ∈ lw_all := lw_g (lw_at lw_m3 84 rfl) rfl
theorem q619 : (Jvm.Cond.methodLink "java/lang/String" (1059 : Nat) ({ cls := "jdk/internal/util/Preconditions", name := "checkIndex", desc := "(IILjava/util/function/BiFunction;)I" } : Jvm.MethodName)) ∈ lw_all := lw_g (lw_at lw_m3 86 rfl) rfl
theorem q622 : (Jvm.Cond.methodLink "java/lang/String" (498 : Nat) ({ cls := "java/lang/StringUTF16", name := "charAt", desc := "([BI)C" } : Jvm.MethodName)) ∈ lw_all := lw_g (lw_at lw_m3 89 rfl) rfl
theorem q1526 : (Jvm.Cond.fieldLink "java/lang/String" (9 : Nat) "java/lang/String" "value" "[B") ∈ lw_all := lw_g (lw_at lw_m7 33 rfl) rfl
theorem q1527 : (Jvm.Cond.fieldLink "java/lang/String" (15 : Nat) "java/lang/String" "coder" "B") ∈ lw_all := lw_g (lw_at lw_m7 34 rfl) rfl
/-! java/lang/StringLatin1 -/
def RJ2 : String := "java/lang/StringLatin1"
abbrev cJ2_charAt : ByteArray := prog_25_method_2_code
def yJ2_charAt : MethodName := ⟨RJ2, "charAt", "([BI)C"⟩
theorem q68 : (Jvm.Cond.initialized "java/lang/StringLatin1") ∈ lw_all := lw_g (lw_at lw_m1 15 rfl) rfl
theorem q612 : (Jvm.Cond.static ({ cls := "java/lang/StringLatin1", name := "charAt", desc := "([BI)C" } : Jvm.MethodName)) ∈ lw_all := lw_g (lw_at lw_m3 79 rfl) rfl
theorem q613 : (Jvm.Cond.code ({ cls := "java/lang/StringLatin1", name := "charAt", desc := "([BI)C" } : Jvm.MethodName) prog_25_method_2_code (2 : Nat) (Option.some Jvm.ClassFile.FieldType.char)) ∈ lw_all := lw_g (lw_at lw_m3 80 rfl) rfl
theorem q614 : (Jvm.Cond.methodLink "java/lang/StringLatin1" (9 : Nat) ({ cls := "java/lang/String", name := "checkIndex", desc := "(II)V" } : Jvm.MethodName)) ∈ lw_all := lw_g (lw_at lw_m3 81 rfl) rfl
/-! jdk/internal/util/Preconditions -/
def RJ3 : String := "jdk/internal/util/Preconditions"
abbrev cJ3_checkIndex : ByteArray := prog_29_method_11_code
def yJ3_checkIndex : MethodName := ⟨RJ3, "checkIndex", "(IILjava/util/function/BiFunction;)I"⟩
theorem q69 : (Jvm.Cond.initialized "jdk/internal/util/Preconditions") ∈ lw_all := lw_g (lw_at lw_m1 16 rfl) rfl
theorem q618 : (Jvm.Cond.laysStatic "jdk/internal/util/Preconditions" "SIOOBE_FORMATTER" "Ljava/util/function/BiFunction;") ∈ lw_tbl := lw_at lw_m3 85 rfl
theorem q620 : (Jvm.Cond.static ({ cls := "jdk/internal/util/Preconditions", name := "checkIndex", desc := "(IILjava/util/function/BiFunction;)I" } : Jvm.MethodName)) ∈ lw_all := lw_g (lw_at lw_m3 87 rfl) rfl
theorem q621 : (Jvm.Cond.code ({ cls := "jdk/internal/util/Preconditions", name := "checkIndex", desc := "(IILjava/util/function/BiFunction;)I" } : Jvm.MethodName) prog_29_method_11_code (3 : Nat) (Option.some Jvm.ClassFile.FieldType.int)) ∈ lw_all := lw_g (lw_at lw_m3 88 rfl) rfl
/-! java/lang/StringUTF16 -/
def RJ4 : String := "java/lang/StringUTF16"
abbrev cJ4_charAt : ByteArray := prog_26_method_83_code
def yJ4_charAt : MethodName := ⟨RJ4, "charAt", "([BI)C"⟩
abbrev cJ4_checkIndex : ByteArray := prog_26_method_91_code
def yJ4_checkIndex : MethodName := ⟨RJ4, "checkIndex", "(I[B)V"⟩
abbrev cJ4_length : ByteArray := prog_26_method_6_code
def yJ4_length : MethodName := ⟨RJ4, "length", "([B)I"⟩
abbrev cJ4_getChar : ByteArray := prog_26_method_5_code
def yJ4_getChar : MethodName := ⟨RJ4, "getChar", "([BI)C"⟩
theorem q70 : (Jvm.Cond.initialized "java/lang/StringUTF16") ∈ lw_all := lw_g (lw_at lw_m1 17 rfl) rfl
theorem q623 : (Jvm.Cond.static ({ cls := "java/lang/StringUTF16", name := "charAt", desc := "([BI)C" } : Jvm.MethodName)) ∈ lw_all := lw_g (lw_at lw_m3 90 rfl) rfl
theorem q624 : (Jvm.Cond.code ({ cls := "java/lang/StringUTF16", name := "charAt", desc := "([BI)C" } : Jvm.MethodName) prog_26_method_83_code (2 : Nat) (Option.some Jvm.ClassFile.FieldType.char)) ∈ lw_all := lw_g (lw_at lw_m3 91 rfl) rfl
theorem q625 : (Jvm.Cond.methodLink "java/lang/StringUTF16" (67 : Nat) ({ cls := "java/lang/StringUTF16", name := "checkIndex", desc := "(I[B)V" } : Jvm.MethodName)) ∈ lw_all := lw_g (lw_at lw_m3 92 rfl) rfl
theorem q626 : (Jvm.Cond.static ({ cls := "java/lang/StringUTF16", name := "checkIndex", desc := "(I[B)V" } : Jvm.MethodName)) ∈ lw_all := lw_g (lw_at lw_m3 93 rfl) rfl
theorem q627 : (Jvm.Cond.code ({ cls := "java/lang/StringUTF16", name := "checkIndex", desc := "(I[B)V" } : Jvm.MethodName) prog_26_method_91_code (2 : Nat) (Option.none : Option Jvm.ClassFile.FieldType)) ∈ lw_all := lw_g (lw_at lw_m3 94 rfl) rfl
theorem q628 : (Jvm.Cond.methodLink "java/lang/StringUTF16" (48 : Nat) ({ cls := "java/lang/StringUTF16", name := "length", desc := "([B)I" } : Jvm.MethodName)) ∈ lw_all := lw_g (lw_at lw_m3 95 rfl) rfl
theorem q629 : (Jvm.Cond.static ({ cls := "java/lang/StringUTF16", name := "length", desc := "([B)I" } : Jvm.MethodName)) ∈ lw_all := lw_g (lw_at lw_m3 96 rfl) rfl
theorem q630 : (Jvm.Cond.code ({ cls := "java/lang/StringUTF16", name := "length", desc := "([B)I" } : Jvm.MethodName) prog_26_method_6_code (1 : Nat) (Option.some Jvm.ClassFile.FieldType.int)) ∈ lw_all := lw_g (lw_at lw_m3 97 rfl) rfl
theorem q631 : (Jvm.Cond.methodLink "java/lang/StringUTF16" (414 : Nat) ({ cls := "java/lang/String", name := "checkIndex", desc := "(II)V" } : Jvm.MethodName)) ∈ lw_all := lw_g (lw_at lw_m3 98 rfl) rfl
theorem q632 : (Jvm.Cond.methodLink "java/lang/StringUTF16" (71 : Nat) ({ cls := "java/lang/StringUTF16", name := "getChar", desc := "([BI)C" } : Jvm.MethodName)) ∈ lw_all := lw_g (lw_at lw_m3 99 rfl) rfl
theorem q633 : (Jvm.Cond.static ({ cls := "java/lang/StringUTF16", name := "getChar", desc := "([BI)C" } : Jvm.MethodName)) ∈ lw_all := lw_g (lw_at lw_m3 100 rfl) rfl
theorem q634 : (Jvm.Cond.code ({ cls := "java/lang/StringUTF16", name := "getChar", desc := "([BI)C" } : Jvm.MethodName) prog_26_method_5_code (2 : Nat) (Option.some Jvm.ClassFile.FieldType.char)) ∈ lw_all := lw_g (lw_at lw_m3 101 rfl) rfl
theorem q635 : (Jvm.Cond.fieldLink "java/lang/StringUTF16" (44 : Nat) "java/lang/StringUTF16" "$assertionsDisabled" "Z") ∈ lw_all := lw_g (lw_at lw_m3 102 rfl) rfl
theorem q636 : (Jvm.Cond.laysStatic "java/lang/StringUTF16" "$assertionsDisabled" "Z") ∈ lw_tbl := lw_at lw_m3 103 rfl
theorem q637 : (Jvm.Cond.fieldLink "java/lang/StringUTF16" (59 : Nat) "java/lang/StringUTF16" "HI_BYTE_SHIFT" "I") ∈ lw_all := lw_g (lw_at lw_m3 104 rfl) rfl
theorem q638 : (Jvm.Cond.laysStatic "java/lang/StringUTF16" "HI_BYTE_SHIFT" "I") ∈ lw_tbl := lw_at lw_m3 105 rfl
theorem q639 : (Jvm.Cond.fieldLink "java/lang/StringUTF16" (63 : Nat) "java/lang/StringUTF16" "LO_BYTE_SHIFT" "I") ∈ lw_all := lw_g (lw_at lw_m3 106 rfl) rfl
theorem q640 : (Jvm.Cond.laysStatic "java/lang/StringUTF16" "LO_BYTE_SHIFT" "I") ∈ lw_tbl := lw_at lw_m3 107 rfl
/-! HutForShow$Mend -/
def RX12 : String := "HutForShow$Mend"
abbrev cX12_code : ByteArray := prog_9_method_2_code
def yX12_code : MethodName := ⟨RX12, "code", "()I"⟩
abbrev cX12_run : ByteArray := prog_9_method_3_code
def yX12_run : MethodName := ⟨RX12, "run", "(LHutForShow$Wood;I)V"⟩
abbrev cX12_init : ByteArray := prog_9_method_1_code
def yX12_init : MethodName := ⟨RX12, "<init>", "()V"⟩
theorem q71 : (Jvm.Cond.initialized "HutForShow$Mend") ∈ lw_all := lw_g (lw_at lw_m1 18 rfl) rfl
theorem q126 : (Jvm.Cond.fieldLinkNest "HutForShow$Mend" (9 : Nat) "HutForShow$Wood" "sticks" "[I" "HutForShow") ∈ lw_tbl := lw_at lw_m1 73 rfl
theorem q445 : (Jvm.Cond.selects "HutForShow$Mend" ({ cls := "HutForShow$Act", name := "code", desc := "()I" } : Jvm.MethodName) ({ cls := "HutForShow$Mend", name := "code", desc := "()I" } : Jvm.MethodName)) ∈ lw_all := lw_g (lw_at lw_m2 152 rfl) rfl
theorem q446 : (Jvm.Cond.instanceMethod ({ cls := "HutForShow$Mend", name := "code", desc := "()I" } : Jvm.MethodName)) ∈ lw_all := lw_g (lw_at lw_m2 153 rfl) rfl
theorem q447 : (Jvm.Cond.code ({ cls := "HutForShow$Mend", name := "code", desc := "()I" } : Jvm.MethodName) prog_9_method_2_code (1 : Nat) (Option.some Jvm.ClassFile.FieldType.int)) ∈ lw_all := lw_g (lw_at lw_m2 154 rfl) rfl
theorem q471 : (Jvm.Cond.selects "HutForShow$Mend" ({ cls := "HutForShow$Act", name := "run", desc := "(LHutForShow$Wood;I)V" } : Jvm.MethodName) ({ cls := "HutForShow$Mend", name := "run", desc := "(LHutForShow$Wood;I)V" } : Jvm.MethodName)) ∈ lw_all := lw_g (lw_at lw_m2 178 rfl) rfl
theorem q472 : (Jvm.Cond.instanceMethod ({ cls := "HutForShow$Mend", name := "run", desc := "(LHutForShow$Wood;I)V" } : Jvm.MethodName)) ∈ lw_all := lw_g (lw_at lw_m2 179 rfl) rfl
theorem q473 : (Jvm.Cond.code ({ cls := "HutForShow$Mend", name := "run", desc := "(LHutForShow$Wood;I)V" } : Jvm.MethodName) prog_9_method_3_code (3 : Nat) (Option.none : Option Jvm.ClassFile.FieldType)) ∈ lw_all := lw_g (lw_at lw_m2 180 rfl) rfl
theorem q474 : (Jvm.Cond.methodLink "HutForShow$Mend" (15 : Nat) ({ cls := "java/lang/Math", name := "min", desc := "(II)I" } : Jvm.MethodName)) ∈ lw_all := lw_g (lw_at lw_m2 181 rfl) rfl
theorem q493 : (Jvm.Cond.selects "HutForShow$Mend" ({ cls := "HutForShow$Act", name := "isAway", desc := "()Z" } : Jvm.MethodName) ({ cls := "HutForShow$Act", name := "isAway", desc := "()Z" } : Jvm.MethodName)) ∈ lw_all := lw_g (lw_at lw_m2 200 rfl) rfl
theorem q642 : (Jvm.Cond.instantiable "HutForShow$Mend" (0 : Nat)) ∈ lw_all := lw_g (lw_at lw_m3 109 rfl) rfl
theorem q644 : (Jvm.Cond.instanceMethod ({ cls := "HutForShow$Mend", name := "<init>", desc := "()V" } : Jvm.MethodName)) ∈ lw_all := lw_g (lw_at lw_m3 111 rfl) rfl
theorem q645 : (Jvm.Cond.code ({ cls := "HutForShow$Mend", name := "<init>", desc := "()V" } : Jvm.MethodName) prog_9_method_1_code (1 : Nat) (Option.none : Option Jvm.ClassFile.FieldType)) ∈ lw_all := lw_g (lw_at lw_m3 112 rfl) rfl
theorem q646 : (Jvm.Cond.methodLinkNest "HutForShow$Mend" (3 : Nat) ({ cls := "HutForShow$Act", name := "<init>", desc := "()V" } : Jvm.MethodName) "HutForShow") ∈ lw_tbl := lw_at lw_m3 113 rfl
theorem q647 : (Jvm.Cond.superclass "HutForShow$Mend" "HutForShow$Act") ∈ lw_all := lw_g (lw_at lw_m3 114 rfl) rfl
theorem q1523 : (Jvm.Cond.castable "HutForShow$Mend" "HutForShow$Act") ∈ lw_tbl := lw_at lw_m7 30 rfl
/-! HutForShow$Find -/
def RX13 : String := "HutForShow$Find"
abbrev cX13_code : ByteArray := prog_6_method_2_code
def yX13_code : MethodName := ⟨RX13, "code", "()I"⟩
abbrev cX13_run : ByteArray := prog_6_method_3_code
def yX13_run : MethodName := ⟨RX13, "run", "(LHutForShow$Wood;I)V"⟩
abbrev cX13_init : ByteArray := prog_6_method_1_code
def yX13_init : MethodName := ⟨RX13, "<init>", "()V"⟩
theorem q72 : (Jvm.Cond.initialized "HutForShow$Find") ∈ lw_all := lw_g (lw_at lw_m1 19 rfl) rfl
theorem q142 : (Jvm.Cond.fieldLinkNest "HutForShow$Find" (18 : Nat) "HutForShow$Wood" "at" "[I" "HutForShow") ∈ lw_tbl := lw_at lw_m1 89 rfl
theorem q439 : (Jvm.Cond.selects "HutForShow$Find" ({ cls := "HutForShow$Act", name := "code", desc := "()I" } : Jvm.MethodName) ({ cls := "HutForShow$Find", name := "code", desc := "()I" } : Jvm.MethodName)) ∈ lw_all := lw_g (lw_at lw_m2 146 rfl) rfl
theorem q440 : (Jvm.Cond.instanceMethod ({ cls := "HutForShow$Find", name := "code", desc := "()I" } : Jvm.MethodName)) ∈ lw_all := lw_g (lw_at lw_m2 147 rfl) rfl
theorem q441 : (Jvm.Cond.code ({ cls := "HutForShow$Find", name := "code", desc := "()I" } : Jvm.MethodName) prog_6_method_2_code (1 : Nat) (Option.some Jvm.ClassFile.FieldType.int)) ∈ lw_all := lw_g (lw_at lw_m2 148 rfl) rfl
theorem q460 : (Jvm.Cond.selects "HutForShow$Find" ({ cls := "HutForShow$Act", name := "run", desc := "(LHutForShow$Wood;I)V" } : Jvm.MethodName) ({ cls := "HutForShow$Find", name := "run", desc := "(LHutForShow$Wood;I)V" } : Jvm.MethodName)) ∈ lw_all := lw_g (lw_at lw_m2 167 rfl) rfl
theorem q461 : (Jvm.Cond.instanceMethod ({ cls := "HutForShow$Find", name := "run", desc := "(LHutForShow$Wood;I)V" } : Jvm.MethodName)) ∈ lw_all := lw_g (lw_at lw_m2 168 rfl) rfl
theorem q462 : (Jvm.Cond.code ({ cls := "HutForShow$Find", name := "run", desc := "(LHutForShow$Wood;I)V" } : Jvm.MethodName) prog_6_method_3_code (4 : Nat) (Option.none : Option Jvm.ClassFile.FieldType)) ∈ lw_all := lw_g (lw_at lw_m2 169 rfl) rfl
theorem q463 : (Jvm.Cond.methodLink "HutForShow$Find" (9 : Nat) ({ cls := "HutForShow$Wood", name := "leastIn", desc := "(I)I" } : Jvm.MethodName)) ∈ lw_all := lw_g (lw_at lw_m2 170 rfl) rfl
theorem q467 : (Jvm.Cond.methodLink "HutForShow$Find" (15 : Nat) ({ cls := "HutForShow$Wood", name := "many", desc := "(I)I" } : Jvm.MethodName)) ∈ lw_all := lw_g (lw_at lw_m2 174 rfl) rfl
theorem q491 : (Jvm.Cond.selects "HutForShow$Find" ({ cls := "HutForShow$Act", name := "isAway", desc := "()Z" } : Jvm.MethodName) ({ cls := "HutForShow$Away", name := "isAway", desc := "()Z" } : Jvm.MethodName)) ∈ lw_all := lw_g (lw_at lw_m2 198 rfl) rfl
theorem q650 : (Jvm.Cond.instantiable "HutForShow$Find" (0 : Nat)) ∈ lw_all := lw_g (lw_at lw_m3 117 rfl) rfl
theorem q652 : (Jvm.Cond.instanceMethod ({ cls := "HutForShow$Find", name := "<init>", desc := "()V" } : Jvm.MethodName)) ∈ lw_all := lw_g (lw_at lw_m3 119 rfl) rfl
theorem q653 : (Jvm.Cond.code ({ cls := "HutForShow$Find", name := "<init>", desc := "()V" } : Jvm.MethodName) prog_6_method_1_code (1 : Nat) (Option.none : Option Jvm.ClassFile.FieldType)) ∈ lw_all := lw_g (lw_at lw_m3 120 rfl) rfl
theorem q654 : (Jvm.Cond.methodLinkNest "HutForShow$Find" (3 : Nat) ({ cls := "HutForShow$Away", name := "<init>", desc := "()V" } : Jvm.MethodName) "HutForShow") ∈ lw_tbl := lw_at lw_m3 121 rfl
theorem q655 : (Jvm.Cond.superclass "HutForShow$Find" "HutForShow$Away") ∈ lw_all := lw_g (lw_at lw_m3 122 rfl) rfl
theorem q1524 : (Jvm.Cond.castable "HutForShow$Find" "HutForShow$Act") ∈ lw_tbl := lw_at lw_m7 31 rfl
/-! java/lang/Throwable -/
def RJ5 : String := "java/lang/Throwable"
def TJ5 : u_T := fun k => match k with
  | 0 => ("java/lang/Throwable", "cause", "Ljava/lang/Throwable;", false)
  | 1 => ("java/lang/Throwable", "stackTrace", "[Ljava/lang/StackTraceElement;", false)
  | 2 => ("java/lang/Throwable", "suppressedExceptions", "Ljava/util/List;", false)
  | 3 => ("java/lang/Throwable", "detailMessage", "Ljava/lang/String;", false)
  | _ => ("java/lang/Throwable", "backtrace", "Ljava/lang/Object;", false)
def tyJ5 : Nat → FieldType := fun k => match k with
  | 0 => .object "java/lang/Throwable"
  | 1 => .array (.object "java/lang/StackTraceElement")
  | 2 => .object "java/util/List"
  | 3 => .object "java/lang/String"
  | _ => .object "java/lang/Object"
abbrev wsJ50 : List Cond := u_ws RJ5 TJ5 5
theorem nmJ5 : ∀ a, a < 5 → ∀ b, b < 5 → a ≠ b → (TJ5 a).2.1 ≠ (TJ5 b).2.1 := by decide +kernel
theorem tyJ5_ok : ∀ k, k < 5 → parseFieldDescriptor (TJ5 k).2.2.1 = some (tyJ5 k) := by decide +kernel
abbrev cJ5_init : ByteArray := prog_28_method_1_code
def yJ5_init : MethodName := ⟨RJ5, "<init>", "()V"⟩
abbrev cJ5_init_2 : ByteArray := prog_28_method_5_code
def yJ5_init_2 : MethodName := ⟨RJ5, "<init>", "(Ljava/lang/String;Ljava/lang/Throwable;ZZ)V"⟩
theorem q73 : (Jvm.Cond.initialized "java/lang/Throwable") ∈ lw_all := lw_g (lw_at lw_m1 20 rfl) rfl
theorem q668 : (Jvm.Cond.declares ({ cls := "java/lang/Throwable", name := "<init>", desc := "()V" } : Jvm.MethodName)) ∈ lw_tbl := lw_at lw_m3 135 rfl
theorem q669 : (Jvm.Cond.declares ({ cls := "java/lang/Throwable", name := "<init>", desc := "(Ljava/lang/String;)V" } : Jvm.MethodName)) ∈ lw_tbl := lw_at lw_m3 136 rfl
theorem q673 : (Jvm.Cond.lays "java/lang/Throwable" "java/lang/Throwable" "cause" "Ljava/lang/Throwable;") ∈ lw_all := lw_g (lw_at lw_m3 140 rfl) rfl
theorem q675 : (Jvm.Cond.lays "java/lang/Throwable" "java/lang/Throwable" "stackTrace" "[Ljava/lang/StackTraceElement;") ∈ lw_all := lw_g (lw_at lw_m3 142 rfl) rfl
theorem q677 : (Jvm.Cond.lays "java/lang/Throwable" "java/lang/Throwable" "suppressedExceptions" "Ljava/util/List;") ∈ lw_all := lw_g (lw_at lw_m3 144 rfl) rfl
theorem q679 : (Jvm.Cond.lays "java/lang/Throwable" "java/lang/Throwable" "detailMessage" "Ljava/lang/String;") ∈ lw_all := lw_g (lw_at lw_m3 146 rfl) rfl
theorem q681 : (Jvm.Cond.lays "java/lang/Throwable" "java/lang/Throwable" "backtrace" "Ljava/lang/Object;") ∈ lw_all := lw_g (lw_at lw_m3 148 rfl) rfl
theorem q682 : (Jvm.Cond.fieldLink "java/lang/Throwable" (198 : Nat) "java/lang/Throwable" "backtrace" "Ljava/lang/Object;") ∈ lw_all := lw_g (lw_at lw_m3 149 rfl) rfl
theorem q683 : (Jvm.Cond.superclass "java/lang/Throwable" "java/lang/Object") ∈ lw_all := lw_g (lw_at lw_m3 150 rfl) rfl
theorem q684 : (Jvm.Cond.instanceMethod ({ cls := "java/lang/Throwable", name := "<init>", desc := "()V" } : Jvm.MethodName)) ∈ lw_all := lw_g (lw_at lw_m3 151 rfl) rfl
theorem q685 : (Jvm.Cond.code ({ cls := "java/lang/Throwable", name := "<init>", desc := "()V" } : Jvm.MethodName) prog_28_method_1_code (1 : Nat) (Option.none : Option Jvm.ClassFile.FieldType)) ∈ lw_all := lw_g (lw_at lw_m3 152 rfl) rfl
theorem q686 : (Jvm.Cond.methodLink "java/lang/Throwable" (1 : Nat) ({ cls := "java/lang/Object", name := "<init>", desc := "()V" } : Jvm.MethodName)) ∈ lw_all := lw_g (lw_at lw_m3 153 rfl) rfl
theorem q687 : (Jvm.Cond.fieldLink "java/lang/Throwable" (13 : Nat) "java/lang/Throwable" "UNASSIGNED_STACK" "[Ljava/lang/StackTraceElement;") ∈ lw_all := lw_g (lw_at lw_m3 154 rfl) rfl
theorem q688 : (Jvm.Cond.laysStatic "java/lang/Throwable" "UNASSIGNED_STACK" "[Ljava/lang/StackTraceElement;") ∈ lw_tbl := lw_at lw_m3 155 rfl
theorem q689 : (Jvm.Cond.fieldLink "java/lang/Throwable" (20 : Nat) "java/lang/Throwable" "SUPPRESSED_SENTINEL" "Ljava/util/List;") ∈ lw_all := lw_g (lw_at lw_m3 156 rfl) rfl
theorem q690 : (Jvm.Cond.laysStatic "java/lang/Throwable" "SUPPRESSED_SENTINEL" "Ljava/util/List;") ∈ lw_tbl := lw_at lw_m3 157 rfl
theorem q691 : (Jvm.Cond.methodLink "java/lang/Throwable" (27 : Nat) ({ cls := "java/lang/Throwable", name := "fillInStackTrace", desc := "()Ljava/lang/Throwable;" } : Jvm.MethodName)) ∈ lw_all := lw_g (lw_at lw_m3 158 rfl) rfl
theorem q692 : (Jvm.Cond.instanceMethod ({ cls := "java/lang/Throwable", name := "fillInStackTrace", desc := "()Ljava/lang/Throwable;" } : Jvm.MethodName)) ∈ lw_all := lw_g (lw_at lw_m3 159 rfl) rfl
theorem q693 : (Jvm.Cond.sameMethod "java/lang/Throwable" "java/lang/Throwable" "fillInStackTrace" "()Ljava/lang/Throwable;") ∈ lw_all := lw_g (lw_at lw_m3 160 rfl) rfl
theorem q694 : (Jvm.Cond.codeSync ({ cls := "java/lang/Throwable", name := "fillInStackTrace", desc := "()Ljava/lang/Throwable;" } : Jvm.MethodName) prog_28_method_18_code (1 : Nat) (Option.some (Jvm.ClassFile.FieldType.object "java/lang/Throwable"))) ∈ lw_all := lw_g (lw_at lw_m3 161 rfl) rfl
theorem q695 : (Jvm.Cond.methodLink "java/lang/Throwable" (202 : Nat) ({ cls := "java/lang/Throwable", name := "fillInStackTrace", desc := "(I)Ljava/lang/Throwable;" } : Jvm.MethodName)) ∈ lw_all := lw_g (lw_at lw_m3 162 rfl) rfl
theorem q696 : (Jvm.Cond.privateMethod ({ cls := "java/lang/Throwable", name := "fillInStackTrace", desc := "(I)Ljava/lang/Throwable;" } : Jvm.MethodName)) ∈ lw_tbl := lw_at lw_m3 163 rfl
theorem q697 : (Jvm.Cond.instanceMethod ({ cls := "java/lang/Throwable", name := "fillInStackTrace", desc := "(I)Ljava/lang/Throwable;" } : Jvm.MethodName)) ∈ lw_all := lw_g (lw_at lw_m3 164 rfl) rfl
theorem q698 : (Jvm.Cond.instantiable "java/lang/Throwable" (6 : Nat)) ∈ lw_all := lw_g (lw_at lw_m3 165 rfl) rfl
theorem q699 : (Jvm.Cond.native ({ cls := "java/lang/Throwable", name := "fillInStackTrace", desc := "(I)Ljava/lang/Throwable;" } : Jvm.MethodName)) ∈ lw_all := lw_g (lw_at lw_m3 166 rfl) rfl
theorem q708 : (Jvm.Cond.instanceMethod ({ cls := "java/lang/Throwable", name := "<init>", desc := "(Ljava/lang/String;Ljava/lang/Throwable;ZZ)V" } : Jvm.MethodName)) ∈ lw_all := lw_g (lw_at lw_m3 175 rfl) rfl
theorem q709 : (Jvm.Cond.code ({ cls := "java/lang/Throwable", name := "<init>", desc := "(Ljava/lang/String;Ljava/lang/Throwable;ZZ)V" } : Jvm.MethodName) prog_28_method_5_code (5 : Nat) (Option.none : Option Jvm.ClassFile.FieldType)) ∈ lw_all := lw_g (lw_at lw_m3 176 rfl) rfl
theorem q712 : (Jvm.Cond.fieldLink "java/lang/Throwable" (198 : Nat) "java/lang/Throwable" "backtrace" "Ljava/lang/Object;") ∈ lw_all := lw_g (lw_at lw_m3 179 rfl) rfl
theorem q713 : (Jvm.Cond.fieldLink "java/lang/Throwable" (31 : Nat) "java/lang/Throwable" "detailMessage" "Ljava/lang/String;") ∈ lw_all := lw_g (lw_at lw_m3 180 rfl) rfl
theorem q714 : (Jvm.Cond.fieldLink "java/lang/Throwable" (7 : Nat) "java/lang/Throwable" "cause" "Ljava/lang/Throwable;") ∈ lw_all := lw_g (lw_at lw_m3 181 rfl) rfl
theorem q715 : (Jvm.Cond.fieldLink "java/lang/Throwable" (17 : Nat) "java/lang/Throwable" "stackTrace" "[Ljava/lang/StackTraceElement;") ∈ lw_all := lw_g (lw_at lw_m3 182 rfl) rfl
theorem q716 : (Jvm.Cond.fieldLink "java/lang/Throwable" (24 : Nat) "java/lang/Throwable" "suppressedExceptions" "Ljava/util/List;") ∈ lw_all := lw_g (lw_at lw_m3 183 rfl) rfl
theorem q719 : (Jvm.Cond.soleField "java/lang/Throwable" "backtrace") ∈ lw_all := lw_g (lw_at lw_m3 186 rfl) rfl
theorem q720 : (Jvm.Cond.soleField "java/lang/Throwable" "detailMessage") ∈ lw_all := lw_g (lw_at lw_m3 187 rfl) rfl
theorem q721 : (Jvm.Cond.soleField "java/lang/Throwable" "cause") ∈ lw_all := lw_g (lw_at lw_m3 188 rfl) rfl
theorem q722 : (Jvm.Cond.soleField "java/lang/Throwable" "stackTrace") ∈ lw_all := lw_g (lw_at lw_m3 189 rfl) rfl
theorem q724 : (Jvm.Cond.soleField "java/lang/Throwable" "depth") ∈ lw_all := lw_g (lw_at lw_m3 191 rfl) rfl
theorem q725 : (Jvm.Cond.soleField "java/lang/Throwable" "suppressedExceptions") ∈ lw_all := lw_g (lw_at lw_m3 192 rfl) rfl
theorem q1520 : (Jvm.Cond.sameMethod "java/lang/Throwable" "java/lang/Throwable" "fillInStackTrace" "(I)Ljava/lang/Throwable;") ∈ lw_all := lw_g (lw_at lw_m7 27 rfl) rfl
theorem in_J5 : ∀ w ∈ wsJ50, w ∈ lw_all := lw_in wsJ50 [673, 675, 677, 679, 681] (by decide +kernel) (by decide +kernel)
/-! java/lang/Exception -/
def RJ6 : String := "java/lang/Exception"
abbrev cJ6_init : ByteArray := prog_21_method_5_code
def yJ6_init : MethodName := ⟨RJ6, "<init>", "(Ljava/lang/String;Ljava/lang/Throwable;ZZ)V"⟩
theorem q74 : (Jvm.Cond.initialized "java/lang/Exception") ∈ lw_all := lw_g (lw_at lw_m1 21 rfl) rfl
theorem q666 : (Jvm.Cond.declares ({ cls := "java/lang/Exception", name := "<init>", desc := "()V" } : Jvm.MethodName)) ∈ lw_tbl := lw_at lw_m3 133 rfl
theorem q667 : (Jvm.Cond.declares ({ cls := "java/lang/Exception", name := "<init>", desc := "(Ljava/lang/String;)V" } : Jvm.MethodName)) ∈ lw_tbl := lw_at lw_m3 134 rfl
theorem q705 : (Jvm.Cond.instanceMethod ({ cls := "java/lang/Exception", name := "<init>", desc := "(Ljava/lang/String;Ljava/lang/Throwable;ZZ)V" } : Jvm.MethodName)) ∈ lw_all := lw_g (lw_at lw_m3 172 rfl) rfl
theorem q706 : (Jvm.Cond.code ({ cls := "java/lang/Exception", name := "<init>", desc := "(Ljava/lang/String;Ljava/lang/Throwable;ZZ)V" } : Jvm.MethodName) prog_21_method_5_code (5 : Nat) (Option.none : Option Jvm.ClassFile.FieldType)) ∈ lw_all := lw_g (lw_at lw_m3 173 rfl) rfl
theorem q707 : (Jvm.Cond.methodLink "java/lang/Exception" (16 : Nat) ({ cls := "java/lang/Throwable", name := "<init>", desc := "(Ljava/lang/String;Ljava/lang/Throwable;ZZ)V" } : Jvm.MethodName)) ∈ lw_all := lw_g (lw_at lw_m3 174 rfl) rfl
/-! HutForShow$Fault -/
def RX14 : String := "HutForShow$Fault"
def TX14 : u_T := fun k => match k with
  | 0 => ("java/lang/Throwable", "cause", "Ljava/lang/Throwable;", false)
  | 1 => ("java/lang/Throwable", "stackTrace", "[Ljava/lang/StackTraceElement;", false)
  | 2 => ("java/lang/Throwable", "suppressedExceptions", "Ljava/util/List;", false)
  | 3 => ("java/lang/Throwable", "detailMessage", "Ljava/lang/String;", false)
  | 4 => ("java/lang/Throwable", "backtrace", "Ljava/lang/Object;", false)
  | 5 => ("java/lang/Throwable", "depth", "I", false)
  | _ => ("HutForShow$Fault", "place", "I", true)
def tyX14 : Nat → FieldType := fun k => match k with
  | 0 => .object "java/lang/Throwable"
  | 1 => .array (.object "java/lang/StackTraceElement")
  | 2 => .object "java/util/List"
  | 3 => .object "java/lang/String"
  | 4 => .object "java/lang/Object"
  | 5 => .int
  | _ => .int
abbrev wsX140 : List Cond := u_ws RX14 TX14 7
theorem nmX14 : ∀ a, a < 7 → ∀ b, b < 7 → a ≠ b → (TX14 a).2.1 ≠ (TX14 b).2.1 := by decide +kernel
theorem tyX14_ok : ∀ k, k < 7 → parseFieldDescriptor (TX14 k).2.2.1 = some (tyX14 k) := by decide +kernel
abbrev cX14_init : ByteArray := prog_4_method_1_code
def yX14_init : MethodName := ⟨RX14, "<init>", "(I)V"⟩
theorem q75 : (Jvm.Cond.initialized "HutForShow$Fault") ∈ lw_all := lw_g (lw_at lw_m1 22 rfl) rfl
theorem q664 : (Jvm.Cond.instantiable "HutForShow$Fault" (7 : Nat)) ∈ lw_all := lw_g (lw_at lw_m3 131 rfl) rfl
theorem q665 : (Jvm.Cond.castable "HutForShow$Fault" "HutForShow$Fault") ∈ lw_tbl := lw_at lw_m3 132 rfl
theorem q670 : (Jvm.Cond.selects "HutForShow$Fault" ({ cls := "java/lang/Throwable", name := "fillInStackTrace", desc := "(I)Ljava/lang/Throwable;" } : Jvm.MethodName) ({ cls := "java/lang/Throwable", name := "fillInStackTrace", desc := "(I)Ljava/lang/Throwable;" } : Jvm.MethodName)) ∈ lw_all := lw_g (lw_at lw_m3 137 rfl) rfl
theorem q671 : (Jvm.Cond.selects "HutForShow$Fault" ({ cls := "java/lang/Throwable", name := "fillInStackTrace", desc := "()Ljava/lang/Throwable;" } : Jvm.MethodName) ({ cls := "java/lang/Throwable", name := "fillInStackTrace", desc := "()Ljava/lang/Throwable;" } : Jvm.MethodName)) ∈ lw_all := lw_g (lw_at lw_m3 138 rfl) rfl
theorem q672 : (Jvm.Cond.lays "HutForShow$Fault" "java/lang/Throwable" "cause" "Ljava/lang/Throwable;") ∈ lw_all := lw_g (lw_at lw_m3 139 rfl) rfl
theorem q674 : (Jvm.Cond.lays "HutForShow$Fault" "java/lang/Throwable" "stackTrace" "[Ljava/lang/StackTraceElement;") ∈ lw_all := lw_g (lw_at lw_m3 141 rfl) rfl
theorem q676 : (Jvm.Cond.lays "HutForShow$Fault" "java/lang/Throwable" "suppressedExceptions" "Ljava/util/List;") ∈ lw_all := lw_g (lw_at lw_m3 143 rfl) rfl
theorem q678 : (Jvm.Cond.lays "HutForShow$Fault" "java/lang/Throwable" "detailMessage" "Ljava/lang/String;") ∈ lw_all := lw_g (lw_at lw_m3 145 rfl) rfl
theorem q680 : (Jvm.Cond.lays "HutForShow$Fault" "java/lang/Throwable" "backtrace" "Ljava/lang/Object;") ∈ lw_all := lw_g (lw_at lw_m3 147 rfl) rfl
theorem q701 : (Jvm.Cond.instanceMethod ({ cls := "HutForShow$Fault", name := "<init>", desc := "(I)V" } : Jvm.MethodName)) ∈ lw_all := lw_g (lw_at lw_m3 168 rfl) rfl
theorem q702 : (Jvm.Cond.code ({ cls := "HutForShow$Fault", name := "<init>", desc := "(I)V" } : Jvm.MethodName) prog_4_method_1_code (2 : Nat) (Option.none : Option Jvm.ClassFile.FieldType)) ∈ lw_all := lw_g (lw_at lw_m3 169 rfl) rfl
theorem q703 : (Jvm.Cond.stringRef "HutForShow$Fault" (1 : Nat) "") ∈ lw_tbl := lw_at lw_m3 170 rfl
theorem q704 : (Jvm.Cond.methodLink "HutForShow$Fault" (3 : Nat) ({ cls := "java/lang/Exception", name := "<init>", desc := "(Ljava/lang/String;Ljava/lang/Throwable;ZZ)V" } : Jvm.MethodName)) ∈ lw_all := lw_g (lw_at lw_m3 171 rfl) rfl
theorem q710 : (Jvm.Cond.fieldLink "HutForShow$Fault" (9 : Nat) "HutForShow$Fault" "place" "I") ∈ lw_all := lw_g (lw_at lw_m3 177 rfl) rfl
theorem q717 : (Jvm.Cond.laysFinal "HutForShow$Fault" "HutForShow$Fault" "place" "I") ∈ lw_all := lw_g (lw_at lw_m3 184 rfl) rfl
theorem q718 : (Jvm.Cond.soleField "HutForShow$Fault" "place") ∈ lw_all := lw_g (lw_at lw_m3 185 rfl) rfl
theorem q723 : (Jvm.Cond.lays "HutForShow$Fault" "java/lang/Throwable" "depth" "I") ∈ lw_all := lw_g (lw_at lw_m3 190 rfl) rfl
theorem q726 : (Jvm.Cond.superclass "HutForShow$Fault" "java/lang/Exception") ∈ lw_all := lw_g (lw_at lw_m3 193 rfl) rfl
theorem in_X14 : ∀ w ∈ wsX140, w ∈ lw_all := lw_in wsX140 [672, 674, 676, 678, 680, 723, 717] (by decide +kernel) (by decide +kernel)
/-! HutForShow$Raid -/
def RX15 : String := "HutForShow$Raid"
def TX15 : u_T := fun k => match k with
  | _ => ("HutForShow$Raid", "goal", "I", true)
def tyX15 : Nat → FieldType := fun k => match k with
  | _ => .int
abbrev wsX150 : List Cond := u_ws RX15 TX15 1
theorem nmX15 : ∀ a, a < 1 → ∀ b, b < 1 → a ≠ b → (TX15 a).2.1 ≠ (TX15 b).2.1 := by decide +kernel
theorem tyX15_ok : ∀ k, k < 1 → parseFieldDescriptor (TX15 k).2.2.1 = some (tyX15 k) := by decide +kernel
abbrev cX15_code : ByteArray := prog_12_method_2_code
def yX15_code : MethodName := ⟨RX15, "code", "()I"⟩
abbrev cX15_run : ByteArray := prog_12_method_3_code
def yX15_run : MethodName := ⟨RX15, "run", "(LHutForShow$Wood;I)V"⟩
abbrev cX15_init : ByteArray := prog_12_method_1_code
def yX15_init : MethodName := ⟨RX15, "<init>", "(I)V"⟩
theorem q76 : (Jvm.Cond.initialized "HutForShow$Raid") ∈ lw_all := lw_g (lw_at lw_m1 23 rfl) rfl
theorem q448 : (Jvm.Cond.selects "HutForShow$Raid" ({ cls := "HutForShow$Act", name := "code", desc := "()I" } : Jvm.MethodName) ({ cls := "HutForShow$Raid", name := "code", desc := "()I" } : Jvm.MethodName)) ∈ lw_all := lw_g (lw_at lw_m2 155 rfl) rfl
theorem q449 : (Jvm.Cond.instanceMethod ({ cls := "HutForShow$Raid", name := "code", desc := "()I" } : Jvm.MethodName)) ∈ lw_all := lw_g (lw_at lw_m2 156 rfl) rfl
theorem q450 : (Jvm.Cond.code ({ cls := "HutForShow$Raid", name := "code", desc := "()I" } : Jvm.MethodName) prog_12_method_2_code (1 : Nat) (Option.some Jvm.ClassFile.FieldType.int)) ∈ lw_all := lw_g (lw_at lw_m2 157 rfl) rfl
theorem q477 : (Jvm.Cond.selects "HutForShow$Raid" ({ cls := "HutForShow$Act", name := "run", desc := "(LHutForShow$Wood;I)V" } : Jvm.MethodName) ({ cls := "HutForShow$Raid", name := "run", desc := "(LHutForShow$Wood;I)V" } : Jvm.MethodName)) ∈ lw_all := lw_g (lw_at lw_m2 184 rfl) rfl
theorem q478 : (Jvm.Cond.instanceMethod ({ cls := "HutForShow$Raid", name := "run", desc := "(LHutForShow$Wood;I)V" } : Jvm.MethodName)) ∈ lw_all := lw_g (lw_at lw_m2 185 rfl) rfl
theorem q479 : (Jvm.Cond.code ({ cls := "HutForShow$Raid", name := "run", desc := "(LHutForShow$Wood;I)V" } : Jvm.MethodName) prog_12_method_3_code (3 : Nat) (Option.none : Option Jvm.ClassFile.FieldType)) ∈ lw_all := lw_g (lw_at lw_m2 186 rfl) rfl
theorem q480 : (Jvm.Cond.methodLink "HutForShow$Raid" (15 : Nat) ({ cls := "HutForShow$Wood", name := "raid", desc := "(II)V" } : Jvm.MethodName)) ∈ lw_all := lw_g (lw_at lw_m2 187 rfl) rfl
theorem q494 : (Jvm.Cond.selects "HutForShow$Raid" ({ cls := "HutForShow$Act", name := "isAway", desc := "()Z" } : Jvm.MethodName) ({ cls := "HutForShow$Away", name := "isAway", desc := "()Z" } : Jvm.MethodName)) ∈ lw_all := lw_g (lw_at lw_m2 201 rfl) rfl
theorem q728 : (Jvm.Cond.instantiable "HutForShow$Raid" (1 : Nat)) ∈ lw_all := lw_g (lw_at lw_m3 195 rfl) rfl
theorem q734 : (Jvm.Cond.instanceMethod ({ cls := "HutForShow$Raid", name := "<init>", desc := "(I)V" } : Jvm.MethodName)) ∈ lw_all := lw_g (lw_at lw_m3 201 rfl) rfl
theorem q735 : (Jvm.Cond.code ({ cls := "HutForShow$Raid", name := "<init>", desc := "(I)V" } : Jvm.MethodName) prog_12_method_1_code (2 : Nat) (Option.none : Option Jvm.ClassFile.FieldType)) ∈ lw_all := lw_g (lw_at lw_m3 202 rfl) rfl
theorem q736 : (Jvm.Cond.methodLinkNest "HutForShow$Raid" (3 : Nat) ({ cls := "HutForShow$Away", name := "<init>", desc := "()V" } : Jvm.MethodName) "HutForShow") ∈ lw_tbl := lw_at lw_m3 203 rfl
theorem q737 : (Jvm.Cond.fieldLink "HutForShow$Raid" (9 : Nat) "HutForShow$Raid" "goal" "I") ∈ lw_all := lw_g (lw_at lw_m3 204 rfl) rfl
theorem q739 : (Jvm.Cond.laysFinal "HutForShow$Raid" "HutForShow$Raid" "goal" "I") ∈ lw_all := lw_g (lw_at lw_m3 206 rfl) rfl
theorem q740 : (Jvm.Cond.soleField "HutForShow$Raid" "goal") ∈ lw_all := lw_g (lw_at lw_m3 207 rfl) rfl
theorem q741 : (Jvm.Cond.superclass "HutForShow$Raid" "HutForShow$Away") ∈ lw_all := lw_g (lw_at lw_m3 208 rfl) rfl
theorem q1525 : (Jvm.Cond.castable "HutForShow$Raid" "HutForShow$Act") ∈ lw_tbl := lw_at lw_m7 32 rfl
theorem in_X15 : ∀ w ∈ wsX150, w ∈ lw_all := lw_in wsX150 [739] (by decide +kernel) (by decide +kernel)
/-! HutForShow$Test -/
def RX16 : String := "HutForShow$Test"
def TX16 : u_T := fun k => match k with
  | 0 => ("HutForShow$Test", "read", "I", true)
  | 1 => ("HutForShow$Test", "isAbove", "Z", true)
  | _ => ("HutForShow$Test", "n", "I", true)
def tyX16 : Nat → FieldType := fun k => match k with
  | 0 => .int
  | 1 => .boolean
  | _ => .int
abbrev wsX160 : List Cond := u_ws RX16 TX16 3
theorem nmX16 : ∀ a, a < 3 → ∀ b, b < 3 → a ≠ b → (TX16 a).2.1 ≠ (TX16 b).2.1 := by decide +kernel
theorem tyX16_ok : ∀ k, k < 3 → parseFieldDescriptor (TX16 k).2.2.1 = some (tyX16 k) := by decide +kernel
abbrev cX16_holds : ByteArray := prog_15_method_2_code
def yX16_holds : MethodName := ⟨RX16, "holds", "(LHutForShow$Wood;I)Z"⟩
abbrev cX16_value : ByteArray := prog_15_method_3_code
def yX16_value : MethodName := ⟨RX16, "value", "(LHutForShow$Wood;I)I"⟩
abbrev cX16_init : ByteArray := prog_15_method_1_code
def yX16_init : MethodName := ⟨RX16, "<init>", "(IZI)V"⟩
theorem q77 : (Jvm.Cond.initialized "HutForShow$Test") ∈ lw_all := lw_g (lw_at lw_m1 24 rfl) rfl
theorem q123 : (Jvm.Cond.fieldLinkNest "HutForShow$Test" (43 : Nat) "HutForShow$Wood" "hour" "I" "HutForShow") ∈ lw_tbl := lw_at lw_m1 70 rfl
theorem q127 : (Jvm.Cond.fieldLinkNest "HutForShow$Test" (24 : Nat) "HutForShow$Wood" "sticks" "[I" "HutForShow") ∈ lw_tbl := lw_at lw_m1 74 rfl
theorem q132 : (Jvm.Cond.fieldLinkNest "HutForShow$Test" (37 : Nat) "HutForShow$Wood" "hunger" "[I" "HutForShow") ∈ lw_tbl := lw_at lw_m1 79 rfl
theorem q135 : (Jvm.Cond.fieldLinkNest "HutForShow$Test" (40 : Nat) "HutForShow$Wood" "taken" "[I" "HutForShow") ∈ lw_tbl := lw_at lw_m1 82 rfl
theorem q423 : (Jvm.Cond.instanceMethod ({ cls := "HutForShow$Test", name := "holds", desc := "(LHutForShow$Wood;I)Z" } : Jvm.MethodName)) ∈ lw_all := lw_g (lw_at lw_m2 130 rfl) rfl
theorem q424 : (Jvm.Cond.selects "HutForShow$Test" ({ cls := "HutForShow$Test", name := "holds", desc := "(LHutForShow$Wood;I)Z" } : Jvm.MethodName) ({ cls := "HutForShow$Test", name := "holds", desc := "(LHutForShow$Wood;I)Z" } : Jvm.MethodName)) ∈ lw_all := lw_g (lw_at lw_m2 131 rfl) rfl
theorem q425 : (Jvm.Cond.code ({ cls := "HutForShow$Test", name := "holds", desc := "(LHutForShow$Wood;I)Z" } : Jvm.MethodName) prog_15_method_2_code (4 : Nat) (Option.some Jvm.ClassFile.FieldType.boolean)) ∈ lw_all := lw_g (lw_at lw_m2 132 rfl) rfl
theorem q426 : (Jvm.Cond.methodLink "HutForShow$Test" (20 : Nat) ({ cls := "HutForShow$Test", name := "value", desc := "(LHutForShow$Wood;I)I" } : Jvm.MethodName)) ∈ lw_all := lw_g (lw_at lw_m2 133 rfl) rfl
theorem q427 : (Jvm.Cond.privateMethod ({ cls := "HutForShow$Test", name := "value", desc := "(LHutForShow$Wood;I)I" } : Jvm.MethodName)) ∈ lw_tbl := lw_at lw_m2 134 rfl
theorem q428 : (Jvm.Cond.instanceMethod ({ cls := "HutForShow$Test", name := "value", desc := "(LHutForShow$Wood;I)I" } : Jvm.MethodName)) ∈ lw_all := lw_g (lw_at lw_m2 135 rfl) rfl
theorem q429 : (Jvm.Cond.instantiable "HutForShow$Test" (3 : Nat)) ∈ lw_all := lw_g (lw_at lw_m2 136 rfl) rfl
theorem q430 : (Jvm.Cond.code ({ cls := "HutForShow$Test", name := "value", desc := "(LHutForShow$Wood;I)I" } : Jvm.MethodName) prog_15_method_3_code (3 : Nat) (Option.some Jvm.ClassFile.FieldType.int)) ∈ lw_all := lw_g (lw_at lw_m2 137 rfl) rfl
theorem q431 : (Jvm.Cond.methodLink "HutForShow$Test" (30 : Nat) ({ cls := "HutForShow$Wood", name := "many", desc := "(I)I" } : Jvm.MethodName)) ∈ lw_all := lw_g (lw_at lw_m2 138 rfl) rfl
theorem q432 : (Jvm.Cond.methodLink "HutForShow$Test" (34 : Nat) ({ cls := "HutForShow$Wood", name := "blue", desc := "(I)I" } : Jvm.MethodName)) ∈ lw_all := lw_g (lw_at lw_m2 139 rfl) rfl
theorem q754 : (Jvm.Cond.instanceMethod ({ cls := "HutForShow$Test", name := "<init>", desc := "(IZI)V" } : Jvm.MethodName)) ∈ lw_all := lw_g (lw_at lw_m3 221 rfl) rfl
theorem q755 : (Jvm.Cond.code ({ cls := "HutForShow$Test", name := "<init>", desc := "(IZI)V" } : Jvm.MethodName) prog_15_method_1_code (4 : Nat) (Option.none : Option Jvm.ClassFile.FieldType)) ∈ lw_all := lw_g (lw_at lw_m3 222 rfl) rfl
theorem q756 : (Jvm.Cond.methodLink "HutForShow$Test" (1 : Nat) ({ cls := "java/lang/Object", name := "<init>", desc := "()V" } : Jvm.MethodName)) ∈ lw_all := lw_g (lw_at lw_m3 223 rfl) rfl
theorem q757 : (Jvm.Cond.fieldLink "HutForShow$Test" (7 : Nat) "HutForShow$Test" "read" "I") ∈ lw_all := lw_g (lw_at lw_m3 224 rfl) rfl
theorem q758 : (Jvm.Cond.fieldLink "HutForShow$Test" (13 : Nat) "HutForShow$Test" "isAbove" "Z") ∈ lw_all := lw_g (lw_at lw_m3 225 rfl) rfl
theorem q759 : (Jvm.Cond.fieldLink "HutForShow$Test" (17 : Nat) "HutForShow$Test" "n" "I") ∈ lw_all := lw_g (lw_at lw_m3 226 rfl) rfl
theorem q760 : (Jvm.Cond.laysFinal "HutForShow$Test" "HutForShow$Test" "read" "I") ∈ lw_all := lw_g (lw_at lw_m3 227 rfl) rfl
theorem q761 : (Jvm.Cond.soleField "HutForShow$Test" "read") ∈ lw_all := lw_g (lw_at lw_m3 228 rfl) rfl
theorem q762 : (Jvm.Cond.laysFinal "HutForShow$Test" "HutForShow$Test" "isAbove" "Z") ∈ lw_all := lw_g (lw_at lw_m3 229 rfl) rfl
theorem q763 : (Jvm.Cond.soleField "HutForShow$Test" "isAbove") ∈ lw_all := lw_g (lw_at lw_m3 230 rfl) rfl
theorem q764 : (Jvm.Cond.laysFinal "HutForShow$Test" "HutForShow$Test" "n" "I") ∈ lw_all := lw_g (lw_at lw_m3 231 rfl) rfl
theorem q765 : (Jvm.Cond.soleField "HutForShow$Test" "n") ∈ lw_all := lw_g (lw_at lw_m3 232 rfl) rfl
theorem q766 : (Jvm.Cond.superclass "HutForShow$Test" "java/lang/Object") ∈ lw_all := lw_g (lw_at lw_m3 233 rfl) rfl
theorem in_X16 : ∀ w ∈ wsX160, w ∈ lw_all := lw_in wsX160 [760, 762, 764] (by decide +kernel) (by decide +kernel)
/-! HutForShow$Taste -/
def RX17 : String := "HutForShow$Taste"
def TX17 : u_T := fun k => match k with
  | 0 => ("HutForShow$Told", "many", "I", false)
  | 1 => ("HutForShow$Told", "this$0", "LHutForShow;", true)
  | 2 => ("HutForShow$Taste", "stick", "I", false)
  | 3 => ("HutForShow$Taste", "colours", "[I", true)
  | 4 => ("HutForShow$Taste", "size", "I", false)
  | 5 => ("HutForShow$Taste", "row", "I", false)
  | 6 => ("HutForShow$Taste", "least", "I", false)
  | _ => ("HutForShow$Taste", "this$0", "LHutForShow;", true)
def tyX17 : Nat → FieldType := fun k => match k with
  | 0 => .int
  | 1 => .object "HutForShow"
  | 2 => .int
  | 3 => .array .int
  | 4 => .int
  | 5 => .int
  | 6 => .int
  | _ => .object "HutForShow"
abbrev wsX170 : List Cond := u_ws RX17 TX17 8
-- two fields of one name: no nmX17
theorem tyX17_ok : ∀ k, k < 8 → parseFieldDescriptor (TX17 k).2.2.1 = some (tyX17 k) := by decide +kernel
abbrev cX17_line : ByteArray := prog_14_method_3_code
def yX17_line : MethodName := ⟨RX17, "line", "(LHutForShow$Reader;)V"⟩
abbrev cX17_most : ByteArray := prog_14_method_2_code
def yX17_most : MethodName := ⟨RX17, "most", "()I"⟩
abbrev cX17_init : ByteArray := prog_14_method_1_code
def yX17_init : MethodName := ⟨RX17, "<init>", "(LHutForShow;)V"⟩
abbrev cX17_worth : ByteArray := prog_14_method_4_code
def yX17_worth : MethodName := ⟨RX17, "worth", "(LHutForShow$Wood;I)I"⟩
theorem q78 : (Jvm.Cond.initialized "HutForShow$Taste") ∈ lw_all := lw_g (lw_at lw_m1 25 rfl) rfl
theorem q128 : (Jvm.Cond.fieldLinkNest "HutForShow$Taste" (52 : Nat) "HutForShow$Wood" "sticks" "[I" "HutForShow") ∈ lw_tbl := lw_at lw_m1 75 rfl
theorem q143 : (Jvm.Cond.fieldLinkNest "HutForShow$Taste" (60 : Nat) "HutForShow$Wood" "at" "[I" "HutForShow") ∈ lw_tbl := lw_at lw_m1 90 rfl
theorem q207 : (Jvm.Cond.fieldLinkNest "HutForShow$Taste" (63 : Nat) "HutForShow" "things" "[LHutForShow$Thing;" "HutForShow") ∈ lw_tbl := lw_at lw_m1 154 rfl
theorem q209 : (Jvm.Cond.fieldLinkNest "HutForShow$Taste" (57 : Nat) "HutForShow" "thingMany" "I" "HutForShow") ∈ lw_tbl := lw_at lw_m1 156 rfl
theorem q367 : (Jvm.Cond.fieldLinkNest "HutForShow$Taste" (67 : Nat) "HutForShow$Thing" "colour" "I" "HutForShow") ∈ lw_tbl := lw_at lw_m2 74 rfl
theorem q370 : (Jvm.Cond.fieldLinkNest "HutForShow$Taste" (71 : Nat) "HutForShow$Thing" "size" "I" "HutForShow") ∈ lw_tbl := lw_at lw_m2 77 rfl
theorem q537 : (Jvm.Cond.sameField "HutForShow$Taste" "HutForShow$Told" "many" "I") ∈ lw_all := lw_g (lw_at lw_m3 4 rfl) rfl
theorem q768 : (Jvm.Cond.selects "HutForShow$Taste" ({ cls := "HutForShow$Told", name := "line", desc := "(LHutForShow$Reader;)V" } : Jvm.MethodName) ({ cls := "HutForShow$Taste", name := "line", desc := "(LHutForShow$Reader;)V" } : Jvm.MethodName)) ∈ lw_all := lw_g (lw_at lw_m3 235 rfl) rfl
theorem q769 : (Jvm.Cond.instanceMethod ({ cls := "HutForShow$Taste", name := "line", desc := "(LHutForShow$Reader;)V" } : Jvm.MethodName)) ∈ lw_all := lw_g (lw_at lw_m3 236 rfl) rfl
theorem q770 : (Jvm.Cond.code ({ cls := "HutForShow$Taste", name := "line", desc := "(LHutForShow$Reader;)V" } : Jvm.MethodName) prog_14_method_3_code (3 : Nat) (Option.none : Option Jvm.ClassFile.FieldType)) ∈ lw_all := lw_g (lw_at lw_m3 237 rfl) rfl
theorem q771 : (Jvm.Cond.stringRef "HutForShow$Taste" (19 : Nat) "stick") ∈ lw_tbl := lw_at lw_m3 238 rfl
theorem q772 : (Jvm.Cond.methodLink "HutForShow$Taste" (21 : Nat) ({ cls := "HutForShow$Reader", name := "skips", desc := "(Ljava/lang/String;)Z" } : Jvm.MethodName)) ∈ lw_all := lw_g (lw_at lw_m3 239 rfl) rfl
theorem q773 : (Jvm.Cond.methodLink "HutForShow$Taste" (27 : Nat) ({ cls := "HutForShow$Reader", name := "number", desc := "(I)I" } : Jvm.MethodName)) ∈ lw_all := lw_g (lw_at lw_m4 0 rfl) rfl
theorem q774 : (Jvm.Cond.stringRef "HutForShow$Taste" (34 : Nat) "colour") ∈ lw_tbl := lw_at lw_m4 1 rfl
theorem q775 : (Jvm.Cond.stringRef "HutForShow$Taste" (36 : Nat) "size") ∈ lw_tbl := lw_at lw_m4 2 rfl
theorem q776 : (Jvm.Cond.stringRef "HutForShow$Taste" (40 : Nat) "row") ∈ lw_tbl := lw_at lw_m4 3 rfl
theorem q777 : (Jvm.Cond.stringRef "HutForShow$Taste" (44 : Nat) "least") ∈ lw_tbl := lw_at lw_m4 4 rfl
theorem q778 : (Jvm.Cond.methodLink "HutForShow$Taste" (46 : Nat) ({ cls := "HutForShow$Reader", name := "need", desc := "(Z)V" } : Jvm.MethodName)) ∈ lw_all := lw_g (lw_at lw_m4 5 rfl) rfl
theorem q786 : (Jvm.Cond.selects "HutForShow$Taste" ({ cls := "HutForShow$Told", name := "most", desc := "()I" } : Jvm.MethodName) ({ cls := "HutForShow$Taste", name := "most", desc := "()I" } : Jvm.MethodName)) ∈ lw_all := lw_g (lw_at lw_m4 13 rfl) rfl
theorem q787 : (Jvm.Cond.instanceMethod ({ cls := "HutForShow$Taste", name := "most", desc := "()I" } : Jvm.MethodName)) ∈ lw_all := lw_g (lw_at lw_m4 14 rfl) rfl
theorem q788 : (Jvm.Cond.code ({ cls := "HutForShow$Taste", name := "most", desc := "()I" } : Jvm.MethodName) prog_14_method_2_code (1 : Nat) (Option.some Jvm.ClassFile.FieldType.int)) ∈ lw_all := lw_g (lw_at lw_m4 15 rfl) rfl
theorem q789 : (Jvm.Cond.instantiable "HutForShow$Taste" (8 : Nat)) ∈ lw_all := lw_g (lw_at lw_m4 16 rfl) rfl
theorem q791 : (Jvm.Cond.instanceMethod ({ cls := "HutForShow$Taste", name := "<init>", desc := "(LHutForShow;)V" } : Jvm.MethodName)) ∈ lw_all := lw_g (lw_at lw_m4 18 rfl) rfl
theorem q792 : (Jvm.Cond.code ({ cls := "HutForShow$Taste", name := "<init>", desc := "(LHutForShow;)V" } : Jvm.MethodName) prog_14_method_1_code (2 : Nat) (Option.none : Option Jvm.ClassFile.FieldType)) ∈ lw_all := lw_g (lw_at lw_m4 19 rfl) rfl
theorem q793 : (Jvm.Cond.methodLinkNest "HutForShow$Taste" (9 : Nat) ({ cls := "HutForShow$Told", name := "<init>", desc := "(LHutForShow;)V" } : Jvm.MethodName) "HutForShow") ∈ lw_tbl := lw_at lw_m4 20 rfl
theorem q794 : (Jvm.Cond.fieldLink "HutForShow$Taste" (31 : Nat) "HutForShow$Taste" "stick" "I") ∈ lw_all := lw_g (lw_at lw_m4 21 rfl) rfl
theorem q795 : (Jvm.Cond.fieldLink "HutForShow$Taste" (15 : Nat) "HutForShow$Taste" "colours" "[I") ∈ lw_all := lw_g (lw_at lw_m4 22 rfl) rfl
theorem q796 : (Jvm.Cond.fieldLink "HutForShow$Taste" (38 : Nat) "HutForShow$Taste" "size" "I") ∈ lw_all := lw_g (lw_at lw_m4 23 rfl) rfl
theorem q797 : (Jvm.Cond.fieldLink "HutForShow$Taste" (42 : Nat) "HutForShow$Taste" "row" "I") ∈ lw_all := lw_g (lw_at lw_m4 24 rfl) rfl
theorem q798 : (Jvm.Cond.fieldLink "HutForShow$Taste" (50 : Nat) "HutForShow$Taste" "least" "I") ∈ lw_all := lw_g (lw_at lw_m4 25 rfl) rfl
theorem q799 : (Jvm.Cond.fieldLink "HutForShow$Taste" (3 : Nat) "HutForShow$Taste" "this$0" "LHutForShow;") ∈ lw_all := lw_g (lw_at lw_m4 26 rfl) rfl
theorem q800 : (Jvm.Cond.lays "HutForShow$Taste" "HutForShow$Taste" "stick" "I") ∈ lw_all := lw_g (lw_at lw_m4 27 rfl) rfl
theorem q801 : (Jvm.Cond.soleField "HutForShow$Taste" "stick") ∈ lw_all := lw_g (lw_at lw_m4 28 rfl) rfl
theorem q802 : (Jvm.Cond.laysFinal "HutForShow$Taste" "HutForShow$Taste" "colours" "[I") ∈ lw_all := lw_g (lw_at lw_m4 29 rfl) rfl
theorem q803 : (Jvm.Cond.soleField "HutForShow$Taste" "colours") ∈ lw_all := lw_g (lw_at lw_m4 30 rfl) rfl
theorem q804 : (Jvm.Cond.lays "HutForShow$Taste" "HutForShow$Taste" "size" "I") ∈ lw_all := lw_g (lw_at lw_m4 31 rfl) rfl
theorem q805 : (Jvm.Cond.soleField "HutForShow$Taste" "size") ∈ lw_all := lw_g (lw_at lw_m4 32 rfl) rfl
theorem q806 : (Jvm.Cond.lays "HutForShow$Taste" "HutForShow$Taste" "row" "I") ∈ lw_all := lw_g (lw_at lw_m4 33 rfl) rfl
theorem q807 : (Jvm.Cond.soleField "HutForShow$Taste" "row") ∈ lw_all := lw_g (lw_at lw_m4 34 rfl) rfl
theorem q808 : (Jvm.Cond.lays "HutForShow$Taste" "HutForShow$Taste" "least" "I") ∈ lw_all := lw_g (lw_at lw_m4 35 rfl) rfl
theorem q809 : (Jvm.Cond.soleField "HutForShow$Taste" "least") ∈ lw_all := lw_g (lw_at lw_m4 36 rfl) rfl
theorem q810 : (Jvm.Cond.laysFinal "HutForShow$Taste" "HutForShow$Taste" "this$0" "LHutForShow;") ∈ lw_all := lw_g (lw_at lw_m4 37 rfl) rfl
theorem q811 : (Jvm.Cond.soleField "HutForShow$Taste" "this$0") ∈ lw_all := lw_g (lw_at lw_m4 38 rfl) rfl
theorem q812 : (Jvm.Cond.lays "HutForShow$Taste" "HutForShow$Told" "many" "I") ∈ lw_all := lw_g (lw_at lw_m4 39 rfl) rfl
theorem q813 : (Jvm.Cond.laysFinal "HutForShow$Taste" "HutForShow$Told" "this$0" "LHutForShow;") ∈ lw_all := lw_g (lw_at lw_m4 40 rfl) rfl
theorem q814 : (Jvm.Cond.superclass "HutForShow$Taste" "HutForShow$Told") ∈ lw_all := lw_g (lw_at lw_m4 41 rfl) rfl
theorem q842 : (Jvm.Cond.instanceMethod ({ cls := "HutForShow$Taste", name := "worth", desc := "(LHutForShow$Wood;I)I" } : Jvm.MethodName)) ∈ lw_all := lw_g (lw_at lw_m4 69 rfl) rfl
theorem q843 : (Jvm.Cond.selects "HutForShow$Taste" ({ cls := "HutForShow$Taste", name := "worth", desc := "(LHutForShow$Wood;I)I" } : Jvm.MethodName) ({ cls := "HutForShow$Taste", name := "worth", desc := "(LHutForShow$Wood;I)I" } : Jvm.MethodName)) ∈ lw_all := lw_g (lw_at lw_m4 70 rfl) rfl
theorem q844 : (Jvm.Cond.code ({ cls := "HutForShow$Taste", name := "worth", desc := "(LHutForShow$Wood;I)I" } : Jvm.MethodName) prog_14_method_4_code (7 : Nat) (Option.some Jvm.ClassFile.FieldType.int)) ∈ lw_all := lw_g (lw_at lw_m4 71 rfl) rfl
theorem in_X17 : ∀ w ∈ wsX170, w ∈ lw_all := lw_in wsX170 [812, 813, 800, 802, 804, 806, 808, 810] (by decide +kernel) (by decide +kernel)
/-! java/lang/Integer -/
def RJ7 : String := "java/lang/Integer"
abbrev cJ7_bitCount : ByteArray := prog_22_method_49_code
def yJ7_bitCount : MethodName := ⟨RJ7, "bitCount", "(I)I"⟩
abbrev cJ7_numberOfTrailingZeros : ByteArray := prog_22_method_48_code
def yJ7_numberOfTrailingZeros : MethodName := ⟨RJ7, "numberOfTrailingZeros", "(I)I"⟩
theorem q80 : (Jvm.Cond.initialized "java/lang/Integer") ∈ lw_all := lw_g (lw_at lw_m1 27 rfl) rfl
theorem q925 : (Jvm.Cond.static ({ cls := "java/lang/Integer", name := "bitCount", desc := "(I)I" } : Jvm.MethodName)) ∈ lw_all := lw_g (lw_at lw_m4 152 rfl) rfl
theorem q926 : (Jvm.Cond.code ({ cls := "java/lang/Integer", name := "bitCount", desc := "(I)I" } : Jvm.MethodName) prog_22_method_49_code (1 : Nat) (Option.some Jvm.ClassFile.FieldType.int)) ∈ lw_all := lw_g (lw_at lw_m4 153 rfl) rfl
theorem q927 : (Jvm.Cond.constant "java/lang/Integer" (265 : Nat) (1431655765 : Int32)) ∈ lw_all := lw_g (lw_at lw_m4 154 rfl) rfl
theorem q928 : (Jvm.Cond.constant "java/lang/Integer" (266 : Nat) (858993459 : Int32)) ∈ lw_all := lw_g (lw_at lw_m4 155 rfl) rfl
theorem q929 : (Jvm.Cond.constant "java/lang/Integer" (267 : Nat) (252645135 : Int32)) ∈ lw_all := lw_g (lw_at lw_m4 156 rfl) rfl
theorem q1042 : (Jvm.Cond.static ({ cls := "java/lang/Integer", name := "numberOfTrailingZeros", desc := "(I)I" } : Jvm.MethodName)) ∈ lw_all := lw_g (lw_at lw_m5 29 rfl) rfl
theorem q1043 : (Jvm.Cond.code ({ cls := "java/lang/Integer", name := "numberOfTrailingZeros", desc := "(I)I" } : Jvm.MethodName) prog_22_method_48_code (2 : Nat) (Option.some Jvm.ClassFile.FieldType.int)) ∈ lw_all := lw_g (lw_at lw_m5 30 rfl) rfl
theorem q1044 : (Jvm.Cond.constant "java/lang/Integer" (264 : Nat) (65536 : Int32)) ∈ lw_all := lw_g (lw_at lw_m5 31 rfl) rfl
/-! HutForShow$Pair -/
def RX18 : String := "HutForShow$Pair"
def TX18 : u_T := fun k => match k with
  | 0 => ("HutForShow$Pair", "sticks", "I", true)
  | _ => ("HutForShow$Pair", "blue", "I", true)
def tyX18 : Nat → FieldType := fun k => match k with
  | 0 => .int
  | _ => .int
abbrev wsX180 : List Cond := u_ws RX18 TX18 2
theorem nmX18 : ∀ a, a < 2 → ∀ b, b < 2 → a ≠ b → (TX18 a).2.1 ≠ (TX18 b).2.1 := by decide +kernel
theorem tyX18_ok : ∀ k, k < 2 → parseFieldDescriptor (TX18 k).2.2.1 = some (tyX18 k) := by decide +kernel
abbrev cX18_init : ByteArray := prog_10_method_1_code
def yX18_init : MethodName := ⟨RX18, "<init>", "(II)V"⟩
abbrev cX18_isFirst : ByteArray := prog_10_method_2_code
def yX18_isFirst : MethodName := ⟨RX18, "isFirst", "(II)Z"⟩
theorem q81 : (Jvm.Cond.initialized "HutForShow$Pair") ∈ lw_all := lw_g (lw_at lw_m1 28 rfl) rfl
theorem q992 : (Jvm.Cond.instantiable "HutForShow$Pair" (2 : Nat)) ∈ lw_all := lw_g (lw_at lw_m4 219 rfl) rfl
theorem q994 : (Jvm.Cond.instanceMethod ({ cls := "HutForShow$Pair", name := "<init>", desc := "(II)V" } : Jvm.MethodName)) ∈ lw_all := lw_g (lw_at lw_m4 221 rfl) rfl
theorem q995 : (Jvm.Cond.code ({ cls := "HutForShow$Pair", name := "<init>", desc := "(II)V" } : Jvm.MethodName) prog_10_method_1_code (3 : Nat) (Option.none : Option Jvm.ClassFile.FieldType)) ∈ lw_all := lw_g (lw_at lw_m4 222 rfl) rfl
theorem q996 : (Jvm.Cond.methodLink "HutForShow$Pair" (1 : Nat) ({ cls := "java/lang/Object", name := "<init>", desc := "()V" } : Jvm.MethodName)) ∈ lw_all := lw_g (lw_at lw_m4 223 rfl) rfl
theorem q997 : (Jvm.Cond.fieldLink "HutForShow$Pair" (7 : Nat) "HutForShow$Pair" "sticks" "I") ∈ lw_all := lw_g (lw_at lw_m4 224 rfl) rfl
theorem q998 : (Jvm.Cond.fieldLink "HutForShow$Pair" (13 : Nat) "HutForShow$Pair" "blue" "I") ∈ lw_all := lw_g (lw_at lw_m4 225 rfl) rfl
theorem q999 : (Jvm.Cond.laysFinal "HutForShow$Pair" "HutForShow$Pair" "sticks" "I") ∈ lw_all := lw_g (lw_at lw_m4 226 rfl) rfl
theorem q1000 : (Jvm.Cond.soleField "HutForShow$Pair" "sticks") ∈ lw_all := lw_g (lw_at lw_m4 227 rfl) rfl
theorem q1001 : (Jvm.Cond.laysFinal "HutForShow$Pair" "HutForShow$Pair" "blue" "I") ∈ lw_all := lw_g (lw_at lw_m4 228 rfl) rfl
theorem q1002 : (Jvm.Cond.soleField "HutForShow$Pair" "blue") ∈ lw_all := lw_g (lw_at lw_m4 229 rfl) rfl
theorem q1003 : (Jvm.Cond.superclass "HutForShow$Pair" "java/lang/Object") ∈ lw_all := lw_g (lw_at lw_m4 230 rfl) rfl
theorem q1013 : (Jvm.Cond.instanceMethod ({ cls := "HutForShow$Pair", name := "isFirst", desc := "(II)Z" } : Jvm.MethodName)) ∈ lw_all := lw_g (lw_at lw_m5 0 rfl) rfl
theorem q1014 : (Jvm.Cond.selects "HutForShow$Pair" ({ cls := "HutForShow$Pair", name := "isFirst", desc := "(II)Z" } : Jvm.MethodName) ({ cls := "HutForShow$Pair", name := "isFirst", desc := "(II)Z" } : Jvm.MethodName)) ∈ lw_all := lw_g (lw_at lw_m5 1 rfl) rfl
theorem q1015 : (Jvm.Cond.code ({ cls := "HutForShow$Pair", name := "isFirst", desc := "(II)Z" } : Jvm.MethodName) prog_10_method_2_code (3 : Nat) (Option.some Jvm.ClassFile.FieldType.boolean)) ∈ lw_all := lw_g (lw_at lw_m5 2 rfl) rfl
theorem in_X18 : ∀ w ∈ wsX180, w ∈ lw_all := lw_in wsX180 [999, 1001] (by decide +kernel) (by decide +kernel)
/-! java/lang/Object -/
def RJ8 : String := "java/lang/Object"
abbrev cJ8_init : ByteArray := object_method_1_code
def yJ8_init : MethodName := ⟨RJ8, "<init>", "()V"⟩
theorem q88 : (Jvm.Cond.instanceMethod ({ cls := "java/lang/Object", name := "<init>", desc := "()V" } : Jvm.MethodName)) ∈ lw_all := lw_g (lw_at lw_m1 35 rfl) rfl
theorem q89 : (Jvm.Cond.code ({ cls := "java/lang/Object", name := "<init>", desc := "()V" } : Jvm.MethodName) object_method_1_code (1 : Nat) (Option.none : Option Jvm.ClassFile.FieldType)) ∈ lw_all := lw_g (lw_at lw_m1 36 rfl) rfl
theorem q111 : (Jvm.Cond.arrayOver (Jvm.ClassFile.FieldType.object "HutForShow$Place")) ∈ lw_tbl := lw_at lw_m1 58 rfl
theorem q113 : (Jvm.Cond.arrayOver (Jvm.ClassFile.FieldType.object "HutForShow$Thing")) ∈ lw_tbl := lw_at lw_m1 60 rfl
theorem q121 : (Jvm.Cond.arrayOver (Jvm.ClassFile.FieldType.object "HutForShow$Act")) ∈ lw_tbl := lw_at lw_m1 68 rfl
theorem q165 : (Jvm.Cond.arrayClass Jvm.ClassFile.FieldType.int) ∈ lw_all := lw_g (lw_at lw_m1 112 rfl) rfl
theorem q167 : (Jvm.Cond.arrayOver (Jvm.ClassFile.FieldType.object "HutForShow$Habit")) ∈ lw_tbl := lw_at lw_m1 114 rfl
theorem q169 : (Jvm.Cond.arrayOver (Jvm.ClassFile.FieldType.object "HutForShow$Taste")) ∈ lw_tbl := lw_at lw_m1 116 rfl
theorem q189 : (Jvm.Cond.arrayClass Jvm.ClassFile.FieldType.byte) ∈ lw_all := lw_g (lw_at lw_m1 136 rfl) rfl
theorem q191 : (Jvm.Cond.arrayOver (Jvm.ClassFile.FieldType.object "HutForShow$Pair")) ∈ lw_tbl := lw_at lw_m1 138 rfl
theorem q193 : (Jvm.Cond.arrayOver (Jvm.ClassFile.FieldType.array Jvm.ClassFile.FieldType.int)) ∈ lw_tbl := lw_at lw_m1 140 rfl
theorem q309 : (Jvm.Cond.arrayClass Jvm.ClassFile.FieldType.boolean) ∈ lw_all := lw_g (lw_at lw_m2 16 rfl) rfl
theorem q526 : (Jvm.Cond.arrayOver (Jvm.ClassFile.FieldType.array (Jvm.ClassFile.FieldType.object "HutForShow$Test"))) ∈ lw_tbl := lw_at lw_m2 233 rfl
theorem q527 : (Jvm.Cond.arrayOver (Jvm.ClassFile.FieldType.object "HutForShow$Test")) ∈ lw_tbl := lw_at lw_m2 234 rfl
theorem q1534 : (Jvm.Cond.arrayOver (Jvm.ClassFile.FieldType.object "java/lang/String")) ∈ lw_tbl := lw_at lw_m7 41 rfl
theorem q53 : (Jvm.Cond.initialized "HutForShowLaw") ∈ lw_all := lw_g (lw_at lw_m1 0 rfl) rfl
theorem q82 : (Jvm.Cond.classLink "HutForShowLaw" (7 : Nat) "HutForShow") ∈ lw_all := lw_g (lw_at lw_m1 29 rfl) rfl
theorem q84 : (Jvm.Cond.methodLink "HutForShowLaw" (9 : Nat) ({ cls := "HutForShow", name := "<init>", desc := "()V" } : Jvm.MethodName)) ∈ lw_all := lw_g (lw_at lw_m1 31 rfl) rfl
theorem q310 : (Jvm.Cond.methodLink "HutForShowLaw" (13 : Nat) ({ cls := "HutForShow", name := "hut", desc := "(III)I" } : Jvm.MethodName)) ∈ lw_all := lw_g (lw_at lw_m2 17 rfl) rfl
theorem q334 : (Jvm.Cond.methodLink "HutForShowLaw" (18 : Nat) ({ cls := "HutForShow", name := "far", desc := "(II)I" } : Jvm.MethodName)) ∈ lw_all := lw_g (lw_at lw_m2 41 rfl) rfl
theorem q349 : (Jvm.Cond.methodLink "HutForShowLaw" (23 : Nat) ({ cls := "HutForShow", name := "thing", desc := "(IIII)I" } : Jvm.MethodName)) ∈ lw_all := lw_g (lw_at lw_m2 56 rfl) rfl
theorem q381 : (Jvm.Cond.methodLink "HutForShowLaw" (28 : Nat) ({ cls := "HutForShow", name := "at", desc := "(II)I" } : Jvm.MethodName)) ∈ lw_all := lw_g (lw_at lw_m2 88 rfl) rfl
theorem q389 : (Jvm.Cond.methodLink "HutForShowLaw" (32 : Nat) ({ cls := "HutForShow", name := "of", desc := "(II)I" } : Jvm.MethodName)) ∈ lw_all := lw_g (lw_at lw_m2 96 rfl) rfl
theorem q397 : (Jvm.Cond.methodLink "HutForShowLaw" (36 : Nat) ({ cls := "HutForShow", name := "set", desc := "(II)I" } : Jvm.MethodName)) ∈ lw_all := lw_g (lw_at lw_m2 104 rfl) rfl
theorem q403 : (Jvm.Cond.methodLink "HutForShowLaw" (40 : Nat) ({ cls := "HutForShow", name := "hours", desc := "(I)I" } : Jvm.MethodName)) ∈ lw_all := lw_g (lw_at lw_m2 110 rfl) rfl
theorem q503 : (Jvm.Cond.methodLink "HutForShowLaw" (47 : Nat) ({ cls := "HutForShow", name := "write", desc := "(JI)I" } : Jvm.MethodName)) ∈ lw_all := lw_g (lw_at lw_m2 210 rfl) rfl
theorem q508 : (Jvm.Cond.methodLink "HutForShowLaw" (52 : Nat) ({ cls := "HutForShow", name := "erase", desc := "()I" } : Jvm.MethodName)) ∈ lw_all := lw_g (lw_at lw_m2 215 rfl) rfl
theorem q512 : (Jvm.Cond.methodLink "HutForShowLaw" (57 : Nat) ({ cls := "HutForShow", name := "fault", desc := "(I)I" } : Jvm.MethodName)) ∈ lw_all := lw_g (lw_at lw_m2 219 rfl) rfl
theorem q815 : (Jvm.Cond.methodLink "HutForShowLaw" (61 : Nat) ({ cls := "HutForShow", name := "habit", desc := "(I)I" } : Jvm.MethodName)) ∈ lw_all := lw_g (lw_at lw_m4 42 rfl) rfl
theorem q819 : (Jvm.Cond.methodLink "HutForShowLaw" (65 : Nat) ({ cls := "HutForShow", name := "taste", desc := "(I)I" } : Jvm.MethodName)) ∈ lw_all := lw_g (lw_at lw_m4 46 rfl) rfl
theorem q826 : (Jvm.Cond.methodLink "HutForShowLaw" (69 : Nat) ({ cls := "HutForShow", name := "act", desc := "(I)I" } : Jvm.MethodName)) ∈ lw_all := lw_g (lw_at lw_m4 53 rfl) rfl
theorem q833 : (Jvm.Cond.methodLink "HutForShowLaw" (73 : Nat) ({ cls := "HutForShow", name := "worth", desc := "(II)I" } : Jvm.MethodName)) ∈ lw_all := lw_g (lw_at lw_m4 60 rfl) rfl
theorem q845 : (Jvm.Cond.methodLink "HutForShowLaw" (77 : Nat) ({ cls := "HutForShow", name := "choose", desc := "(I)I" } : Jvm.MethodName)) ∈ lw_all := lw_g (lw_at lw_m4 72 rfl) rfl
theorem q849 : (Jvm.Cond.methodLink "HutForShowLaw" (81 : Nat) ({ cls := "HutForShow", name := "would", desc := "(III)I" } : Jvm.MethodName)) ∈ lw_all := lw_g (lw_at lw_m4 76 rfl) rfl
theorem q864 : (Jvm.Cond.methodLink "HutForShowLaw" (85 : Nat) ({ cls := "HutForShow", name := "lost", desc := "(I)I" } : Jvm.MethodName)) ∈ lw_all := lw_g (lw_at lw_m4 91 rfl) rfl
theorem q872 : (Jvm.Cond.methodLink "HutForShowLaw" (89 : Nat) ({ cls := "HutForShow", name := "uneven", desc := "(JI)I" } : Jvm.MethodName)) ∈ lw_all := lw_g (lw_at lw_m4 99 rfl) rfl
theorem q891 : (Jvm.Cond.methodLink "HutForShowLaw" (93 : Nat) ({ cls := "HutForShow", name := "evenest", desc := "(JII)I" } : Jvm.MethodName)) ∈ lw_all := lw_g (lw_at lw_m4 118 rfl) rfl
theorem q904 : (Jvm.Cond.methodLink "HutForShowLaw" (98 : Nat) ({ cls := "HutForShow", name := "guest", desc := "(II)I" } : Jvm.MethodName)) ∈ lw_all := lw_g (lw_at lw_m4 131 rfl) rfl
theorem q908 : (Jvm.Cond.methodLink "HutForShowLaw" (102 : Nat) ({ cls := "HutForShow", name := "held", desc := "(I)I" } : Jvm.MethodName)) ∈ lw_all := lw_g (lw_at lw_m4 135 rfl) rfl
theorem q919 : (Jvm.Cond.methodLink "HutForShowLaw" (106 : Nat) ({ cls := "HutForShow", name := "row", desc := "(II)I" } : Jvm.MethodName)) ∈ lw_all := lw_g (lw_at lw_m4 146 rfl) rfl
theorem q936 : (Jvm.Cond.methodLink "HutForShowLaw" (110 : Nat) ({ cls := "HutForShow", name := "seen", desc := "(III)I" } : Jvm.MethodName)) ∈ lw_all := lw_g (lw_at lw_m4 163 rfl) rfl
theorem q944 : (Jvm.Cond.methodLink "HutForShowLaw" (114 : Nat) ({ cls := "HutForShow", name := "whose", desc := "(I)I" } : Jvm.MethodName)) ∈ lw_all := lw_g (lw_at lw_m4 171 rfl) rfl
theorem q952 : (Jvm.Cond.methodLink "HutForShowLaw" (118 : Nat) ({ cls := "HutForShow", name := "thieves", desc := "(I)I" } : Jvm.MethodName)) ∈ lw_all := lw_g (lw_at lw_m4 179 rfl) rfl
theorem q956 : (Jvm.Cond.methodLink "HutForShowLaw" (122 : Nat) ({ cls := "HutForShow", name := "gains", desc := "(II)I" } : Jvm.MethodName)) ∈ lw_all := lw_g (lw_at lw_m4 183 rfl) rfl
theorem q973 : (Jvm.Cond.methodLink "HutForShowLaw" (126 : Nat) ({ cls := "HutForShow", name := "even", desc := "(I)I" } : Jvm.MethodName)) ∈ lw_all := lw_g (lw_at lw_m4 200 rfl) rfl
theorem q981 : (Jvm.Cond.methodLink "HutForShowLaw" (130 : Nat) ({ cls := "HutForShow", name := "ring", desc := "(I)I" } : Jvm.MethodName)) ∈ lw_all := lw_g (lw_at lw_m4 208 rfl) rfl
theorem q985 : (Jvm.Cond.methodLink "HutForShowLaw" (134 : Nat) ({ cls := "HutForShow", name := "chose", desc := "(IIIIZ)I" } : Jvm.MethodName)) ∈ lw_all := lw_g (lw_at lw_m4 212 rfl) rfl
theorem q1004 : (Jvm.Cond.methodLink "HutForShowLaw" (139 : Nat) ({ cls := "HutForShow", name := "may", desc := "(I)I" } : Jvm.MethodName)) ∈ lw_all := lw_g (lw_at lw_m4 231 rfl) rfl
theorem q1016 : (Jvm.Cond.methodLink "HutForShowLaw" (143 : Nat) ({ cls := "HutForShow", name := "pair", desc := "(IIII)I" } : Jvm.MethodName)) ∈ lw_all := lw_g (lw_at lw_m5 3 rfl) rfl
theorem q1020 : (Jvm.Cond.methodLink "HutForShowLaw" (147 : Nat) ({ cls := "HutForShow", name := "parting", desc := "()I" } : Jvm.MethodName)) ∈ lw_all := lw_g (lw_at lw_m5 7 rfl) rfl
theorem q1025 : (Jvm.Cond.methodLink "HutForShowLaw" (151 : Nat) ({ cls := "HutForShow", name := "spot", desc := "(II)I" } : Jvm.MethodName)) ∈ lw_all := lw_g (lw_at lw_m5 12 rfl) rfl
theorem q1029 : (Jvm.Cond.methodLink "HutForShowLaw" (155 : Nat) ({ cls := "HutForShow", name := "room", desc := "()I" } : Jvm.MethodName)) ∈ lw_all := lw_g (lw_at lw_m5 16 rfl) rfl
theorem q1037 : (Jvm.Cond.methodLink "HutForShowLaw" (159 : Nat) ({ cls := "HutForShow", name := "trip", desc := "(I)I" } : Jvm.MethodName)) ∈ lw_all := lw_g (lw_at lw_m5 24 rfl) rfl
theorem q1046 : (Jvm.Cond.methodLink "HutForShowLaw" (163 : Nat) ({ cls := "HutForShow", name := "count", desc := "(I)I" } : Jvm.MethodName)) ∈ lw_all := lw_g (lw_at lw_m5 33 rfl) rfl
theorem q1050 : (Jvm.Cond.classLink "HutForShowLaw" (10 : Nat) "HutForShowModel") ∈ lw_all := lw_g (lw_at lw_m5 37 rfl) rfl
theorem q1052 : (Jvm.Cond.methodLink "HutForShowLaw" (12 : Nat) ({ cls := "HutForShowModel", name := "<init>", desc := "()V" } : Jvm.MethodName)) ∈ lw_all := lw_g (lw_at lw_m5 39 rfl) rfl
theorem q1207 : (Jvm.Cond.methodLink "HutForShowLaw" (17 : Nat) ({ cls := "HutForShowModel", name := "hut", desc := "(III)I" } : Jvm.MethodName)) ∈ lw_all := lw_g (lw_at lw_m5 194 rfl) rfl
theorem q1214 : (Jvm.Cond.methodLink "HutForShowLaw" (22 : Nat) ({ cls := "HutForShowModel", name := "far", desc := "(II)I" } : Jvm.MethodName)) ∈ lw_all := lw_g (lw_at lw_m5 201 rfl) rfl
theorem q1229 : (Jvm.Cond.methodLink "HutForShowLaw" (27 : Nat) ({ cls := "HutForShowModel", name := "thing", desc := "(IIII)I" } : Jvm.MethodName)) ∈ lw_all := lw_g (lw_at lw_m5 216 rfl) rfl
theorem q1237 : (Jvm.Cond.methodLink "HutForShowLaw" (31 : Nat) ({ cls := "HutForShowModel", name := "at", desc := "(II)I" } : Jvm.MethodName)) ∈ lw_all := lw_g (lw_at lw_m5 224 rfl) rfl
theorem q1241 : (Jvm.Cond.methodLink "HutForShowLaw" (35 : Nat) ({ cls := "HutForShowModel", name := "of", desc := "(II)I" } : Jvm.MethodName)) ∈ lw_all := lw_g (lw_at lw_m5 228 rfl) rfl
theorem q1249 : (Jvm.Cond.methodLink "HutForShowLaw" (39 : Nat) ({ cls := "HutForShowModel", name := "set", desc := "(II)I" } : Jvm.MethodName)) ∈ lw_all := lw_g (lw_at lw_m5 236 rfl) rfl
theorem q1253 : (Jvm.Cond.methodLink "HutForShowLaw" (44 : Nat) ({ cls := "HutForShowModel", name := "hours", desc := "(I)I" } : Jvm.MethodName)) ∈ lw_all := lw_g (lw_at lw_m6 0 rfl) rfl
theorem q1277 : (Jvm.Cond.methodLink "HutForShowLaw" (51 : Nat) ({ cls := "HutForShowModel", name := "write", desc := "(JI)I" } : Jvm.MethodName)) ∈ lw_all := lw_g (lw_at lw_m6 24 rfl) rfl
theorem q1282 : (Jvm.Cond.methodLink "HutForShowLaw" (56 : Nat) ({ cls := "HutForShowModel", name := "erase", desc := "()I" } : Jvm.MethodName)) ∈ lw_all := lw_g (lw_at lw_m6 29 rfl) rfl
theorem q1286 : (Jvm.Cond.methodLink "HutForShowLaw" (60 : Nat) ({ cls := "HutForShowModel", name := "fault", desc := "(I)I" } : Jvm.MethodName)) ∈ lw_all := lw_g (lw_at lw_m6 33 rfl) rfl
theorem q1344 : (Jvm.Cond.methodLink "HutForShowLaw" (64 : Nat) ({ cls := "HutForShowModel", name := "habit", desc := "(I)I" } : Jvm.MethodName)) ∈ lw_all := lw_g (lw_at lw_m6 91 rfl) rfl
theorem q1348 : (Jvm.Cond.methodLink "HutForShowLaw" (68 : Nat) ({ cls := "HutForShowModel", name := "taste", desc := "(I)I" } : Jvm.MethodName)) ∈ lw_all := lw_g (lw_at lw_m6 95 rfl) rfl
theorem q1355 : (Jvm.Cond.methodLink "HutForShowLaw" (72 : Nat) ({ cls := "HutForShowModel", name := "act", desc := "(I)I" } : Jvm.MethodName)) ∈ lw_all := lw_g (lw_at lw_m6 102 rfl) rfl
theorem q1359 : (Jvm.Cond.methodLink "HutForShowLaw" (76 : Nat) ({ cls := "HutForShowModel", name := "worth", desc := "(II)I" } : Jvm.MethodName)) ∈ lw_all := lw_g (lw_at lw_m6 106 rfl) rfl
theorem q1371 : (Jvm.Cond.methodLink "HutForShowLaw" (80 : Nat) ({ cls := "HutForShowModel", name := "choose", desc := "(I)I" } : Jvm.MethodName)) ∈ lw_all := lw_g (lw_at lw_m6 118 rfl) rfl
theorem q1375 : (Jvm.Cond.methodLink "HutForShowLaw" (84 : Nat) ({ cls := "HutForShowModel", name := "would", desc := "(III)I" } : Jvm.MethodName)) ∈ lw_all := lw_g (lw_at lw_m6 122 rfl) rfl
theorem q1387 : (Jvm.Cond.methodLink "HutForShowLaw" (88 : Nat) ({ cls := "HutForShowModel", name := "lost", desc := "(I)I" } : Jvm.MethodName)) ∈ lw_all := lw_g (lw_at lw_m6 134 rfl) rfl
theorem q1395 : (Jvm.Cond.methodLink "HutForShowLaw" (92 : Nat) ({ cls := "HutForShowModel", name := "uneven", desc := "(JI)I" } : Jvm.MethodName)) ∈ lw_all := lw_g (lw_at lw_m6 142 rfl) rfl
theorem q1408 : (Jvm.Cond.methodLink "HutForShowLaw" (97 : Nat) ({ cls := "HutForShowModel", name := "evenest", desc := "(JII)I" } : Jvm.MethodName)) ∈ lw_all := lw_g (lw_at lw_m6 155 rfl) rfl
theorem q1412 : (Jvm.Cond.methodLink "HutForShowLaw" (101 : Nat) ({ cls := "HutForShowModel", name := "guest", desc := "(II)I" } : Jvm.MethodName)) ∈ lw_all := lw_g (lw_at lw_m6 159 rfl) rfl
theorem q1416 : (Jvm.Cond.methodLink "HutForShowLaw" (105 : Nat) ({ cls := "HutForShowModel", name := "held", desc := "(I)I" } : Jvm.MethodName)) ∈ lw_all := lw_g (lw_at lw_m6 163 rfl) rfl
theorem q1424 : (Jvm.Cond.methodLink "HutForShowLaw" (109 : Nat) ({ cls := "HutForShowModel", name := "row", desc := "(II)I" } : Jvm.MethodName)) ∈ lw_all := lw_g (lw_at lw_m6 171 rfl) rfl
theorem q1428 : (Jvm.Cond.methodLink "HutForShowLaw" (113 : Nat) ({ cls := "HutForShowModel", name := "seen", desc := "(III)I" } : Jvm.MethodName)) ∈ lw_all := lw_g (lw_at lw_m6 175 rfl) rfl
theorem q1432 : (Jvm.Cond.methodLink "HutForShowLaw" (117 : Nat) ({ cls := "HutForShowModel", name := "whose", desc := "(I)I" } : Jvm.MethodName)) ∈ lw_all := lw_g (lw_at lw_m6 179 rfl) rfl
theorem q1440 : (Jvm.Cond.methodLink "HutForShowLaw" (121 : Nat) ({ cls := "HutForShowModel", name := "thieves", desc := "(I)I" } : Jvm.MethodName)) ∈ lw_all := lw_g (lw_at lw_m6 187 rfl) rfl
theorem q1444 : (Jvm.Cond.methodLink "HutForShowLaw" (125 : Nat) ({ cls := "HutForShowModel", name := "gains", desc := "(II)I" } : Jvm.MethodName)) ∈ lw_all := lw_g (lw_at lw_m6 191 rfl) rfl
theorem q1461 : (Jvm.Cond.methodLink "HutForShowLaw" (129 : Nat) ({ cls := "HutForShowModel", name := "even", desc := "(I)I" } : Jvm.MethodName)) ∈ lw_all := lw_g (lw_at lw_m6 208 rfl) rfl
theorem q1469 : (Jvm.Cond.methodLink "HutForShowLaw" (133 : Nat) ({ cls := "HutForShowModel", name := "ring", desc := "(I)I" } : Jvm.MethodName)) ∈ lw_all := lw_g (lw_at lw_m6 216 rfl) rfl
theorem q1473 : (Jvm.Cond.methodLink "HutForShowLaw" (138 : Nat) ({ cls := "HutForShowModel", name := "chose", desc := "(IIIIZ)I" } : Jvm.MethodName)) ∈ lw_all := lw_g (lw_at lw_m6 220 rfl) rfl
theorem q1480 : (Jvm.Cond.methodLink "HutForShowLaw" (142 : Nat) ({ cls := "HutForShowModel", name := "may", desc := "(I)I" } : Jvm.MethodName)) ∈ lw_all := lw_g (lw_at lw_m6 227 rfl) rfl
theorem q1488 : (Jvm.Cond.methodLink "HutForShowLaw" (146 : Nat) ({ cls := "HutForShowModel", name := "pair", desc := "(IIII)I" } : Jvm.MethodName)) ∈ lw_all := lw_g (lw_at lw_m6 235 rfl) rfl
theorem q1492 : (Jvm.Cond.methodLink "HutForShowLaw" (150 : Nat) ({ cls := "HutForShowModel", name := "parting", desc := "()I" } : Jvm.MethodName)) ∈ lw_all := lw_g (lw_at lw_m6 239 rfl) rfl
theorem q1496 : (Jvm.Cond.methodLink "HutForShowLaw" (154 : Nat) ({ cls := "HutForShowModel", name := "spot", desc := "(II)I" } : Jvm.MethodName)) ∈ lw_all := lw_g (lw_at lw_m7 3 rfl) rfl
theorem q1500 : (Jvm.Cond.methodLink "HutForShowLaw" (158 : Nat) ({ cls := "HutForShowModel", name := "room", desc := "()I" } : Jvm.MethodName)) ∈ lw_all := lw_g (lw_at lw_m7 7 rfl) rfl
theorem q1511 : (Jvm.Cond.methodLink "HutForShowLaw" (162 : Nat) ({ cls := "HutForShowModel", name := "trip", desc := "(I)I" } : Jvm.MethodName)) ∈ lw_all := lw_g (lw_at lw_m7 18 rfl) rfl
theorem q1515 : (Jvm.Cond.methodLink "HutForShowLaw" (166 : Nat) ({ cls := "HutForShowModel", name := "count", desc := "(I)I" } : Jvm.MethodName)) ∈ lw_all := lw_g (lw_at lw_m7 22 rfl) rfl
theorem q1519 : (Jvm.Cond.constantLong "HutForShowLaw" (45 : Nat) (4294967295 : Int64)) ∈ lw_all := lw_g (lw_at lw_m7 26 rfl) rfl
theorem q79 : (Jvm.Cond.initialized "java/lang/System") ∈ lw_all := lw_g (lw_at lw_m1 26 rfl) rfl
theorem q862 : (Jvm.Cond.static ({ cls := "java/lang/System", name := "arraycopy", desc := "(Ljava/lang/Object;ILjava/lang/Object;II)V" } : Jvm.MethodName)) ∈ lw_all := lw_g (lw_at lw_m4 89 rfl) rfl
theorem q863 : (Jvm.Cond.native ({ cls := "java/lang/System", name := "arraycopy", desc := "(Ljava/lang/Object;ILjava/lang/Object;II)V" } : Jvm.MethodName)) ∈ lw_all := lw_g (lw_at lw_m4 90 rfl) rfl
