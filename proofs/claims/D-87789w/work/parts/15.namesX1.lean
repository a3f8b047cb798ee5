/-! TreePressModel -/
set_option maxRecDepth 100000
def RX1 : String := "TreePressModel"
def TX1 : u_T := fun k => match k with
  | 0 => ("TreePressModel", "tape", "[B", true)
  | 1 => ("TreePressModel", "taped", "I", false)
  | 2 => ("TreePressModel", "row", "[B", true)
  | 3 => ("TreePressModel", "size", "I", false)
  | 4 => ("TreePressModel", "at", "I", false)
  | 5 => ("TreePressModel", "wrong", "I", false)
  | 6 => ("TreePressModel", "place", "I", false)
  | 7 => ("TreePressModel", "bank", "I", false)
  | 8 => ("TreePressModel", "b", "I", false)
  | 9 => ("TreePressModel", "isThere", "Z", false)
  | 10 => ("TreePressModel", "hasType", "[Z", true)
  | 11 => ("TreePressModel", "texts", "[B", true)
  | 12 => ("TreePressModel", "nodes", "[I", true)
  | 13 => ("TreePressModel", "kind", "[I", true)
  | 14 => ("TreePressModel", "up", "[I", true)
  | 15 => ("TreePressModel", "nameFrom", "[I", true)
  | 16 => ("TreePressModel", "nameSize", "[I", true)
  | 17 => ("TreePressModel", "stringFrom", "[I", true)
  | 18 => ("TreePressModel", "stringSize", "[I", true)
  | 19 => ("TreePressModel", "byDefault", "[Z", true)
  | 20 => ("TreePressModel", "isBlank", "[Z", true)
  | 21 => ("TreePressModel", "pool", "[B", true)
  | 22 => ("TreePressModel", "pooled", "[I", true)
  | 23 => ("TreePressModel", "deepest", "[I", true)
  | 24 => ("TreePressModel", "typeFrom", "[I", true)
  | 25 => ("TreePressModel", "typeSize", "[I", true)
  | 26 => ("TreePressModel", "decls", "[I", true)
  | 27 => ("TreePressModel", "declFrom", "[I", true)
  | 28 => ("TreePressModel", "declSize", "[I", true)
  | 29 => ("TreePressModel", "spec", "[I", true)
  | 30 => ("TreePressModel", "specMany", "[I", true)
  | 31 => ("TreePressModel", "specFrom", "[I", true)
  | 32 => ("TreePressModel", "specSize", "[I", true)
  | 33 => ("TreePressModel", "firsts", "[J", true)
  | 34 => ("TreePressModel", "lasts", "[J", true)
  | 35 => ("TreePressModel", "mayBeNone", "[Z", true)
  | 36 => ("TreePressModel", "follows", "[J", true)
  | 37 => ("TreePressModel", "rules", "[I", true)
  | 38 => ("TreePressModel", "ruleOfFrom", "[I", true)
  | 39 => ("TreePressModel", "ruleOfSize", "[I", true)
  | 40 => ("TreePressModel", "ruleFrom", "[I", true)
  | 41 => ("TreePressModel", "ruleSize", "[I", true)
  | 42 => ("TreePressModel", "ruleType", "[I", true)
  | 43 => ("TreePressModel", "ruleHow", "[I", true)
  | 44 => ("TreePressModel", "ruleValue", "[I", true)
  | 45 => ("TreePressModel", "ruleValueSize", "[I", true)
  | 46 => ("TreePressModel", "tokenMany", "[I", true)
  | 47 => ("TreePressModel", "tokenFrom", "[I", true)
  | 48 => ("TreePressModel", "tokenSize", "[I", true)
  | 49 => ("TreePressModel", "stood", "[I", true)
  | 50 => ("TreePressModel", "stoodMany", "[I", true)
  | 51 => ("TreePressModel", "sized", "I", false)
  | 52 => ("TreePressModel", "byRef", "Z", false)
  | 53 => ("TreePressModel", "piece", "I", false)
  | 54 => ("TreePressModel", "signs", "[I", true)
  | 55 => ("TreePressModel", "begun", "[Z", true)
  | 56 => ("TreePressModel", "none", "[Z", true)
  | 57 => ("TreePressModel", "first", "[J", true)
  | 58 => ("TreePressModel", "last", "[J", true)
  | 59 => ("TreePressModel", "partNone", "Z", false)
  | 60 => ("TreePressModel", "partFirst", "J", false)
  | 61 => ("TreePressModel", "partLast", "J", false)
  | 62 => ("TreePressModel", "rulesOf", "I", false)
  | 63 => ("TreePressModel", "open", "[I", true)
  | 64 => ("TreePressModel", "deep", "I", false)
  | 65 => ("TreePressModel", "findings", "I", false)
  | 66 => ("TreePressModel", "found", "[I", true)
  | 67 => ("TreePressModel", "foundAt", "[I", true)
  | 68 => ("TreePressModel", "tolds", "I", false)
  | 69 => ("TreePressModel", "tolds0", "[I", true)
  | 70 => ("TreePressModel", "so", "[Z", true)
  | 71 => ("TreePressModel", "then", "[Z", true)
  | 72 => ("TreePressModel", "mine", "[Z", true)
  | 73 => ("TreePressModel", "stepHow", "[I", true)
  | 74 => ("TreePressModel", "stepDeep", "[Z", true)
  | 75 => ("TreePressModel", "stepFrom", "[I", true)
  | 76 => ("TreePressModel", "stepSize", "[I", true)
  | 77 => ("TreePressModel", "filterMany", "[I", true)
  | 78 => ("TreePressModel", "filterHow", "[I", true)
  | 79 => ("TreePressModel", "filterFrom", "[I", true)
  | 80 => ("TreePressModel", "filterSize", "[I", true)
  | 81 => ("TreePressModel", "filterOfAttribute", "[Z", true)
  | 82 => ("TreePressModel", "quotedFrom", "[I", true)
  | 83 => ("TreePressModel", "quotedSize", "[I", true)
  | 84 => ("TreePressModel", "steps", "I", false)
  | 85 => ("TreePressModel", "fromRoot", "Z", false)
  | 86 => ("TreePressModel", "lines", "I", false)
  | 87 => ("TreePressModel", "pages", "I", false)
  | 88 => ("TreePressModel", "lineBytes", "[B", true)
  | 89 => ("TreePressModel", "lineSize", "[I", true)
  | 90 => ("TreePressModel", "linePage", "[I", true)
  | 91 => ("TreePressModel", "linePlace", "[I", true)
  | 92 => ("TreePressModel", "lineText", "[I", true)
  | 93 => ("TreePressModel", "blockFrom", "[I", true)
  | 94 => ("TreePressModel", "blockTo", "[I", true)
  | 95 => ("TreePressModel", "blocks", "I", false)
  | 96 => ("TreePressModel", "word", "[B", true)
  | 97 => ("TreePressModel", "wordText", "[I", true)
  | 98 => ("TreePressModel", "wordSize", "I", false)
  | 99 => ("TreePressModel", "isOpenLine", "Z", false)
  | 100 => ("TreePressModel", "wide", "I", false)
  | _ => ("TreePressModel", "blockOf", "[I", true)
def tyX1 : Nat → FieldType := fun k => match k with
  | 0 => .array .byte
  | 1 => .int
  | 2 => .array .byte
  | 3 => .int
  | 4 => .int
  | 5 => .int
  | 6 => .int
  | 7 => .int
  | 8 => .int
  | 9 => .boolean
  | 10 => .array .boolean
  | 11 => .array .byte
  | 12 => .array .int
  | 13 => .array .int
  | 14 => .array .int
  | 15 => .array .int
  | 16 => .array .int
  | 17 => .array .int
  | 18 => .array .int
  | 19 => .array .boolean
  | 20 => .array .boolean
  | 21 => .array .byte
  | 22 => .array .int
  | 23 => .array .int
  | 24 => .array .int
  | 25 => .array .int
  | 26 => .array .int
  | 27 => .array .int
  | 28 => .array .int
  | 29 => .array .int
  | 30 => .array .int
  | 31 => .array .int
  | 32 => .array .int
  | 33 => .array .long
  | 34 => .array .long
  | 35 => .array .boolean
  | 36 => .array .long
  | 37 => .array .int
  | 38 => .array .int
  | 39 => .array .int
  | 40 => .array .int
  | 41 => .array .int
  | 42 => .array .int
  | 43 => .array .int
  | 44 => .array .int
  | 45 => .array .int
  | 46 => .array .int
  | 47 => .array .int
  | 48 => .array .int
  | 49 => .array .int
  | 50 => .array .int
  | 51 => .int
  | 52 => .boolean
  | 53 => .int
  | 54 => .array .int
  | 55 => .array .boolean
  | 56 => .array .boolean
  | 57 => .array .long
  | 58 => .array .long
  | 59 => .boolean
  | 60 => .long
  | 61 => .long
  | 62 => .int
  | 63 => .array .int
  | 64 => .int
  | 65 => .int
  | 66 => .array .int
  | 67 => .array .int
  | 68 => .int
  | 69 => .array .int
  | 70 => .array .boolean
  | 71 => .array .boolean
  | 72 => .array .boolean
  | 73 => .array .int
  | 74 => .array .boolean
  | 75 => .array .int
  | 76 => .array .int
  | 77 => .array .int
  | 78 => .array .int
  | 79 => .array .int
  | 80 => .array .int
  | 81 => .array .boolean
  | 82 => .array .int
  | 83 => .array .int
  | 84 => .int
  | 85 => .boolean
  | 86 => .int
  | 87 => .int
  | 88 => .array .byte
  | 89 => .array .int
  | 90 => .array .int
  | 91 => .array .int
  | 92 => .array .int
  | 93 => .array .int
  | 94 => .array .int
  | 95 => .int
  | 96 => .array .byte
  | 97 => .array .int
  | 98 => .int
  | 99 => .boolean
  | 100 => .int
  | _ => .array .int
abbrev wsX10 : List Cond := u_ws RX1 TX1 102
set_option maxRecDepth 100000 in
theorem nmX1 : ∀ a, a < 102 → ∀ b, b < 102 → a ≠ b → (TX1 a).2.1 ≠ (TX1 b).2.1 := by decide +kernel
set_option maxRecDepth 100000 in
theorem tyX1_ok : ∀ k, k < 102 → parseFieldDescriptor (TX1 k).2.2.1 = some (tyX1 k) := by decide +kernel
abbrev cX1_init : ByteArray := prog_21_method_1_code
def yX1_init : MethodName := ⟨RX1, "<init>", "()V"⟩
abbrev cX1_read : ByteArray := prog_21_method_46_code
def yX1_read : MethodName := ⟨RX1, "read", "(I)I"⟩
abbrev cX1_in : ByteArray := prog_21_method_3_code
def yX1_in : MethodName := ⟨RX1, "in", "(JJJ)Z"⟩
abbrev cX1_begin : ByteArray := prog_21_method_47_code
def yX1_begin : MethodName := ⟨RX1, "begin", "(I)V"⟩
abbrev cX1_newNode : ByteArray := prog_21_method_37_code
def yX1_newNode : MethodName := ⟨RX1, "newNode", "(II)I"⟩
abbrev cX1_isGood : ByteArray := prog_21_method_6_code
def yX1_isGood : MethodName := ⟨RX1, "isGood", "()Z"⟩
abbrev cX1_fail : ByteArray := prog_21_method_4_code
def yX1_fail : MethodName := ⟨RX1, "fail", "(II)V"⟩
abbrev cX1_misc : ByteArray := prog_21_method_22_code
def yX1_misc : MethodName := ⟨RX1, "misc", "()V"⟩
abbrev cX1_maybeS : ByteArray := prog_21_method_14_code
def yX1_maybeS : MethodName := ⟨RX1, "maybeS", "()V"⟩
abbrev cX1_octet : ByteArray := prog_21_method_5_code
def yX1_octet : MethodName := ⟨RX1, "octet", "(I)I"⟩
abbrev cX1_isS : ByteArray := prog_21_method_7_code
def yX1_isS : MethodName := ⟨RX1, "isS", "(I)Z"⟩
abbrev cX1_stands : ByteArray := prog_21_method_11_code
def yX1_stands : MethodName := ⟨RX1, "stands", "(JI)Z"⟩
abbrev cX1_comment : ByteArray := prog_21_method_21_code
def yX1_comment : MethodName := ⟨RX1, "comment", "()V"⟩
abbrev cX1_isChar : ByteArray := prog_21_method_8_code
def yX1_isChar : MethodName := ⟨RX1, "isChar", "(I)Z"⟩
abbrev cX1_passes : ByteArray := prog_21_method_13_code
def yX1_passes : MethodName := ⟨RX1, "passes", "(I)Z"⟩
abbrev cX1_stands2 : ByteArray := prog_21_method_12_code
def yX1_stands2 : MethodName := ⟨RX1, "stands2", "(JJI)Z"⟩
abbrev cX1_doctype : ByteArray := prog_21_method_23_code
def yX1_doctype : MethodName := ⟨RX1, "doctype", "()V"⟩
abbrev cX1_mustS : ByteArray := prog_21_method_15_code
def yX1_mustS : MethodName := ⟨RX1, "mustS", "()V"⟩
abbrev cX1_takeName : ByteArray := prog_21_method_16_code
def yX1_takeName : MethodName := ⟨RX1, "takeName", "()I"⟩
abbrev cX1_isFirst : ByteArray := prog_21_method_9_code
def yX1_isFirst : MethodName := ⟨RX1, "isFirst", "(I)Z"⟩
abbrev cX1_isNext : ByteArray := prog_21_method_10_code
def yX1_isNext : MethodName := ⟨RX1, "isNext", "(I)Z"⟩
abbrev cX1_declaration : ByteArray := prog_21_method_24_code
def yX1_declaration : MethodName := ⟨RX1, "declaration", "()V"⟩
abbrev cX1_mixed : ByteArray := prog_21_method_26_code
def yX1_mixed : MethodName := ⟨RX1, "mixed", "(I)V"⟩
abbrev cX1_specName : ByteArray := prog_21_method_25_code
def yX1_specName : MethodName := ⟨RX1, "specName", "(I)I"⟩
abbrev cX1_group : ByteArray := prog_21_method_31_code
def yX1_group : MethodName := ⟨RX1, "group", "(I)V"⟩
abbrev cX1_openGroup : ByteArray := prog_21_method_30_code
def yX1_openGroup : MethodName := ⟨RX1, "openGroup", "(I)V"⟩
abbrev cX1_mark : ByteArray := prog_21_method_28_code
def yX1_mark : MethodName := ⟨RX1, "mark", "(I)V"⟩
abbrev cX1_joinFollows : ByteArray := prog_21_method_27_code
def yX1_joinFollows : MethodName := ⟨RX1, "joinFollows", "(IJJ)V"⟩
abbrev cX1_comes : ByteArray := prog_21_method_29_code
def yX1_comes : MethodName := ⟨RX1, "comes", "(II)V"⟩
abbrev cX1_attributeList : ByteArray := prog_21_method_33_code
def yX1_attributeList : MethodName := ⟨RX1, "attributeList", "()V"⟩
abbrev cX1_rule : ByteArray := prog_21_method_34_code
def yX1_rule : MethodName := ⟨RX1, "rule", "(II)V"⟩
abbrev cX1_hasRule : ByteArray := prog_21_method_32_code
def yX1_hasRule : MethodName := ⟨RX1, "hasRule", "(IIII)Z"⟩
abbrev cX1_isSame : ByteArray := prog_21_method_17_code
def yX1_isSame : MethodName := ⟨RX1, "isSame", "(IIII)Z"⟩
abbrev cX1_tokens : ByteArray := prog_21_method_35_code
def yX1_tokens : MethodName := ⟨RX1, "tokens", "(I)V"⟩
abbrev cX1_defaults : ByteArray := prog_21_method_36_code
def yX1_defaults : MethodName := ⟨RX1, "defaults", "(I)V"⟩
abbrev cX1_value : ByteArray := prog_21_method_20_code
def yX1_value : MethodName := ⟨RX1, "value", "()I"⟩
abbrev cX1_takePiece : ByteArray := prog_21_method_18_code
def yX1_takePiece : MethodName := ⟨RX1, "takePiece", "()I"⟩
abbrev cX1_keep : ByteArray := prog_21_method_19_code
def yX1_keep : MethodName := ⟨RX1, "keep", "(II)V"⟩
abbrev cX1_element : ByteArray := prog_21_method_38_code
def yX1_element : MethodName := ⟨RX1, "element", "()V"⟩
abbrev cX1_attribute : ByteArray := prog_21_method_41_code
def yX1_attribute : MethodName := ⟨RX1, "attribute", "(I)V"⟩
abbrev cX1_hasAttribute : ByteArray := prog_21_method_40_code
def yX1_hasAttribute : MethodName := ⟨RX1, "hasAttribute", "(III)Z"⟩
abbrev cX1_attributesOf : ByteArray := prog_21_method_39_code
def yX1_attributesOf : MethodName := ⟨RX1, "attributesOf", "(I)I"⟩
abbrev cX1_defaultsOf : ByteArray := prog_21_method_42_code
def yX1_defaultsOf : MethodName := ⟨RX1, "defaultsOf", "(II)V"⟩
abbrev cX1_content : ByteArray := prog_21_method_45_code
def yX1_content : MethodName := ⟨RX1, "content", "()V"⟩
abbrev cX1_close : ByteArray := prog_21_method_44_code
def yX1_close : MethodName := ⟨RX1, "close", "()V"⟩
abbrev cX1_text : ByteArray := prog_21_method_43_code
def yX1_text : MethodName := ⟨RX1, "text", "()V"⟩
abbrev cX1_judge : ByteArray := prog_21_method_56_code
def yX1_judge : MethodName := ⟨RX1, "judge", "()V"⟩
abbrev cX1_judgeDecl : ByteArray := prog_21_method_52_code
def yX1_judgeDecl : MethodName := ⟨RX1, "judgeDecl", "(I)V"⟩
abbrev cX1_declOf : ByteArray := prog_21_method_49_code
def yX1_declOf : MethodName := ⟨RX1, "declOf", "(II)I"⟩
abbrev cX1_tellFinding : ByteArray := prog_21_method_48_code
def yX1_tellFinding : MethodName := ⟨RX1, "tellFinding", "(II)V"⟩
abbrev cX1_isDoubled : ByteArray := prog_21_method_51_code
def yX1_isDoubled : MethodName := ⟨RX1, "isDoubled", "(IJ)Z"⟩
abbrev cX1_areAlike : ByteArray := prog_21_method_50_code
def yX1_areAlike : MethodName := ⟨RX1, "areAlike", "(III)Z"⟩
abbrev cX1_judgeRule : ByteArray := prog_21_method_55_code
def yX1_judgeRule : MethodName := ⟨RX1, "judgeRule", "(I)V"⟩
abbrev cX1_isOf : ByteArray := prog_21_method_54_code
def yX1_isOf : MethodName := ⟨RX1, "isOf", "(III)Z"⟩
abbrev cX1_isName : ByteArray := prog_21_method_53_code
def yX1_isName : MethodName := ⟨RX1, "isName", "(II)Z"⟩
abbrev cX1_judgeElement : ByteArray := prog_21_method_60_code
def yX1_judgeElement : MethodName := ⟨RX1, "judgeElement", "(I)V"⟩
abbrev cX1_fits : ByteArray := prog_21_method_62_code
def yX1_fits : MethodName := ⟨RX1, "fits", "(II)Z"⟩
abbrev cX1_named : ByteArray := prog_21_method_61_code
def yX1_named : MethodName := ⟨RX1, "named", "(IJI)J"⟩
abbrev cX1_ruleFor : ByteArray := prog_21_method_57_code
def yX1_ruleFor : MethodName := ⟨RX1, "ruleFor", "(II)I"⟩
abbrev cX1_areSameKept : ByteArray := prog_21_method_58_code
def yX1_areSameKept : MethodName := ⟨RX1, "areSameKept", "(IIII)Z"⟩
abbrev cX1_isTaken : ByteArray := prog_21_method_59_code
def yX1_isTaken : MethodName := ⟨RX1, "isTaken", "(I)Z"⟩
abbrev cX1_select : ByteArray := prog_21_method_74_code
def yX1_select : MethodName := ⟨RX1, "select", "(II)I"⟩
abbrev cX1_path : ByteArray := prog_21_method_66_code
def yX1_path : MethodName := ⟨RX1, "path", "()V"⟩
abbrev cX1_step : ByteArray := prog_21_method_65_code
def yX1_step : MethodName := ⟨RX1, "step", "(Z)V"⟩
abbrev cX1_filter : ByteArray := prog_21_method_64_code
def yX1_filter : MethodName := ⟨RX1, "filter", "(I)V"⟩
abbrev cX1_quoted : ByteArray := prog_21_method_63_code
def yX1_quoted : MethodName := ⟨RX1, "quoted", "(I)V"⟩
abbrev cX1_goStep : ByteArray := prog_21_method_73_code
def yX1_goStep : MethodName := ⟨RX1, "goStep", "(I)V"⟩
abbrev cX1_isWithin : ByteArray := prog_21_method_72_code
def yX1_isWithin : MethodName := ⟨RX1, "isWithin", "(II)Z"⟩
abbrev cX1_leads : ByteArray := prog_21_method_68_code
def yX1_leads : MethodName := ⟨RX1, "leads", "(III)Z"⟩
abbrev cX1_isCalled : ByteArray := prog_21_method_67_code
def yX1_isCalled : MethodName := ⟨RX1, "isCalled", "(III)Z"⟩
abbrev cX1_filterMine : ByteArray := prog_21_method_71_code
def yX1_filterMine : MethodName := ⟨RX1, "filterMine", "(I)V"⟩
abbrev cX1_passesFilter : ByteArray := prog_21_method_70_code
def yX1_passesFilter : MethodName := ⟨RX1, "passesFilter", "(II)Z"⟩
abbrev cX1_hasString : ByteArray := prog_21_method_69_code
def yX1_hasString : MethodName := ⟨RX1, "hasString", "(III)Z"⟩
abbrev cX1_stringOf : ByteArray := prog_21_method_89_code
def yX1_stringOf : MethodName := ⟨RX1, "stringOf", "(I)I"⟩
abbrev cX1_stringAt : ByteArray := prog_21_method_90_code
def yX1_stringAt : MethodName := ⟨RX1, "stringAt", "(II)I"⟩
abbrev cX1_told : ByteArray := prog_21_method_75_code
def yX1_told : MethodName := ⟨RX1, "told", "(I)I"⟩
abbrev cX1_set : ByteArray := prog_21_method_82_code
def yX1_set : MethodName := ⟨RX1, "set", "(II)I"⟩
abbrev cX1_leave : ByteArray := prog_21_method_81_code
def yX1_leave : MethodName := ⟨RX1, "leave", "(II)I"⟩
abbrev cX1_isBlock : ByteArray := prog_21_method_79_code
def yX1_isBlock : MethodName := ⟨RX1, "isBlock", "(I)Z"⟩
abbrev cX1_endWord : ByteArray := prog_21_method_78_code
def yX1_endWord : MethodName := ⟨RX1, "endWord", "()V"⟩
abbrev cX1_toLine : ByteArray := prog_21_method_76_code
def yX1_toLine : MethodName := ⟨RX1, "toLine", "(II)V"⟩
abbrev cX1_endLine : ByteArray := prog_21_method_77_code
def yX1_endLine : MethodName := ⟨RX1, "endLine", "()V"⟩
abbrev cX1_beginElement : ByteArray := prog_21_method_83_code
def yX1_beginElement : MethodName := ⟨RX1, "beginElement", "(I)V"⟩
abbrev cX1_isKept : ByteArray := prog_21_method_80_code
def yX1_isKept : MethodName := ⟨RX1, "isKept", "(I)Z"⟩
abbrev cX1_setText : ByteArray := prog_21_method_84_code
def yX1_setText : MethodName := ⟨RX1, "setText", "(I)V"⟩
abbrev cX1_toPages : ByteArray := prog_21_method_85_code
def yX1_toPages : MethodName := ⟨RX1, "toPages", "(I)V"⟩
abbrev cX1_feed : ByteArray := prog_21_method_86_code
def yX1_feed : MethodName := ⟨RX1, "feed", "(IIIII)I"⟩
abbrev cX1_place : ByteArray := prog_21_method_87_code
def yX1_place : MethodName := ⟨RX1, "place", "()I"⟩
abbrev cX1_node : ByteArray := prog_21_method_91_code
def yX1_node : MethodName := ⟨RX1, "node", "(II)I"⟩
abbrev cX1_isNode : ByteArray := prog_21_method_88_code
def yX1_isNode : MethodName := ⟨RX1, "isNode", "(I)Z"⟩
abbrev cX1_name : ByteArray := prog_21_method_92_code
def yX1_name : MethodName := ⟨RX1, "name", "(II)I"⟩
abbrev cX1_string : ByteArray := prog_21_method_93_code
def yX1_string : MethodName := ⟨RX1, "string", "(II)I"⟩
abbrev cX1_findings : ByteArray := prog_21_method_94_code
def yX1_findings : MethodName := ⟨RX1, "findings", "()I"⟩
abbrev cX1_finding : ByteArray := prog_21_method_95_code
def yX1_finding : MethodName := ⟨RX1, "finding", "(II)I"⟩
abbrev cX1_line : ByteArray := prog_21_method_96_code
def yX1_line : MethodName := ⟨RX1, "line", "(II)I"⟩
abbrev cX1_at : ByteArray := prog_21_method_97_code
def yX1_at : MethodName := ⟨RX1, "at", "(II)I"⟩
abbrev cX1_count : ByteArray := prog_21_method_98_code
def yX1_count : MethodName := ⟨RX1, "count", "(I)I"⟩
theorem q136 : (Jvm.Cond.initialized "TreePressModel") ∈ lw_all := lw_g (lw_at lw_m1 5 rfl) rfl
theorem q394 : (Jvm.Cond.selects "TreePressModel" ({ cls := "java/lang/Object", name := "getClass", desc := "()Ljava/lang/Class;" } : Jvm.MethodName) ({ cls := "java/lang/Object", name := "getClass", desc := "()Ljava/lang/Class;" } : Jvm.MethodName)) ∈ lw_all := lw_g (lw_at lw_m2 23 rfl) rfl
theorem q1474 : (Jvm.Cond.instantiable "TreePressModel" (102 : Nat)) ∈ lw_all := lw_g (lw_at lw_m6 143 rfl) rfl
theorem q1476 : (Jvm.Cond.instanceMethod ({ cls := "TreePressModel", name := "<init>", desc := "()V" } : Jvm.MethodName)) ∈ lw_all := lw_g (lw_at lw_m6 145 rfl) rfl
theorem q1477 : (Jvm.Cond.code ({ cls := "TreePressModel", name := "<init>", desc := "()V" } : Jvm.MethodName) prog_21_method_1_code (1 : Nat) (Option.none : Option Jvm.ClassFile.FieldType)) ∈ lw_all := lw_g (lw_at lw_m6 146 rfl) rfl
theorem q1478 : (Jvm.Cond.methodLink "TreePressModel" (1 : Nat) ({ cls := "java/lang/Object", name := "<init>", desc := "()V" } : Jvm.MethodName)) ∈ lw_all := lw_g (lw_at lw_m6 147 rfl) rfl
theorem q1479 : (Jvm.Cond.constant "TreePressModel" (215 : Nat) (240000 : Int32)) ∈ lw_all := lw_g (lw_at lw_m6 148 rfl) rfl
theorem q1480 : (Jvm.Cond.fieldLink "TreePressModel" (7 : Nat) "TreePressModel" "tape" "[B") ∈ lw_all := lw_g (lw_at lw_m6 149 rfl) rfl
theorem q1481 : (Jvm.Cond.fieldLink "TreePressModel" (476 : Nat) "TreePressModel" "taped" "I") ∈ lw_all := lw_g (lw_at lw_m6 150 rfl) rfl
theorem q1482 : (Jvm.Cond.fieldLink "TreePressModel" (13 : Nat) "TreePressModel" "row" "[B") ∈ lw_all := lw_g (lw_at lw_m6 151 rfl) rfl
theorem q1483 : (Jvm.Cond.fieldLink "TreePressModel" (249 : Nat) "TreePressModel" "size" "I") ∈ lw_all := lw_g (lw_at lw_m6 152 rfl) rfl
theorem q1484 : (Jvm.Cond.fieldLink "TreePressModel" (276 : Nat) "TreePressModel" "at" "I") ∈ lw_all := lw_g (lw_at lw_m6 153 rfl) rfl
theorem q1485 : (Jvm.Cond.fieldLink "TreePressModel" (246 : Nat) "TreePressModel" "wrong" "I") ∈ lw_all := lw_g (lw_at lw_m6 154 rfl) rfl
theorem q1486 : (Jvm.Cond.fieldLink "TreePressModel" (16 : Nat) "TreePressModel" "place" "I") ∈ lw_all := lw_g (lw_at lw_m6 155 rfl) rfl
theorem q1487 : (Jvm.Cond.fieldLink "TreePressModel" (482 : Nat) "TreePressModel" "bank" "I") ∈ lw_all := lw_g (lw_at lw_m6 156 rfl) rfl
theorem q1488 : (Jvm.Cond.fieldLink "TreePressModel" (328 : Nat) "TreePressModel" "b" "I") ∈ lw_all := lw_g (lw_at lw_m6 157 rfl) rfl
theorem q1489 : (Jvm.Cond.fieldLink "TreePressModel" (498 : Nat) "TreePressModel" "isThere" "Z") ∈ lw_all := lw_g (lw_at lw_m6 158 rfl) rfl
theorem q1490 : (Jvm.Cond.fieldLink "TreePressModel" (20 : Nat) "TreePressModel" "hasType" "[Z") ∈ lw_all := lw_g (lw_at lw_m6 159 rfl) rfl
theorem q1491 : (Jvm.Cond.fieldLink "TreePressModel" (24 : Nat) "TreePressModel" "texts" "[B") ∈ lw_all := lw_g (lw_at lw_m6 160 rfl) rfl
theorem q1492 : (Jvm.Cond.fieldLink "TreePressModel" (27 : Nat) "TreePressModel" "nodes" "[I") ∈ lw_all := lw_g (lw_at lw_m6 161 rfl) rfl
theorem q1493 : (Jvm.Cond.fieldLink "TreePressModel" (31 : Nat) "TreePressModel" "kind" "[I") ∈ lw_all := lw_g (lw_at lw_m6 162 rfl) rfl
theorem q1494 : (Jvm.Cond.fieldLink "TreePressModel" (34 : Nat) "TreePressModel" "up" "[I") ∈ lw_all := lw_g (lw_at lw_m6 163 rfl) rfl
theorem q1495 : (Jvm.Cond.fieldLink "TreePressModel" (37 : Nat) "TreePressModel" "nameFrom" "[I") ∈ lw_all := lw_g (lw_at lw_m6 164 rfl) rfl
theorem q1496 : (Jvm.Cond.fieldLink "TreePressModel" (40 : Nat) "TreePressModel" "nameSize" "[I") ∈ lw_all := lw_g (lw_at lw_m6 165 rfl) rfl
theorem q1497 : (Jvm.Cond.fieldLink "TreePressModel" (43 : Nat) "TreePressModel" "stringFrom" "[I") ∈ lw_all := lw_g (lw_at lw_m6 166 rfl) rfl
theorem q1498 : (Jvm.Cond.fieldLink "TreePressModel" (46 : Nat) "TreePressModel" "stringSize" "[I") ∈ lw_all := lw_g (lw_at lw_m6 167 rfl) rfl
theorem q1499 : (Jvm.Cond.fieldLink "TreePressModel" (49 : Nat) "TreePressModel" "byDefault" "[Z") ∈ lw_all := lw_g (lw_at lw_m6 168 rfl) rfl
theorem q1500 : (Jvm.Cond.fieldLink "TreePressModel" (52 : Nat) "TreePressModel" "isBlank" "[Z") ∈ lw_all := lw_g (lw_at lw_m6 169 rfl) rfl
theorem q1501 : (Jvm.Cond.fieldLink "TreePressModel" (55 : Nat) "TreePressModel" "pool" "[B") ∈ lw_all := lw_g (lw_at lw_m6 170 rfl) rfl
theorem q1502 : (Jvm.Cond.fieldLink "TreePressModel" (58 : Nat) "TreePressModel" "pooled" "[I") ∈ lw_all := lw_g (lw_at lw_m6 171 rfl) rfl
theorem q1503 : (Jvm.Cond.fieldLink "TreePressModel" (61 : Nat) "TreePressModel" "deepest" "[I") ∈ lw_all := lw_g (lw_at lw_m6 172 rfl) rfl
theorem q1504 : (Jvm.Cond.fieldLink "TreePressModel" (64 : Nat) "TreePressModel" "typeFrom" "[I") ∈ lw_all := lw_g (lw_at lw_m6 173 rfl) rfl
theorem q1505 : (Jvm.Cond.fieldLink "TreePressModel" (67 : Nat) "TreePressModel" "typeSize" "[I") ∈ lw_all := lw_g (lw_at lw_m6 174 rfl) rfl
theorem q1506 : (Jvm.Cond.fieldLink "TreePressModel" (70 : Nat) "TreePressModel" "decls" "[I") ∈ lw_all := lw_g (lw_at lw_m6 175 rfl) rfl
theorem q1507 : (Jvm.Cond.fieldLink "TreePressModel" (73 : Nat) "TreePressModel" "declFrom" "[I") ∈ lw_all := lw_g (lw_at lw_m6 176 rfl) rfl
theorem q1508 : (Jvm.Cond.fieldLink "TreePressModel" (76 : Nat) "TreePressModel" "declSize" "[I") ∈ lw_all := lw_g (lw_at lw_m6 177 rfl) rfl
theorem q1509 : (Jvm.Cond.fieldLink "TreePressModel" (79 : Nat) "TreePressModel" "spec" "[I") ∈ lw_all := lw_g (lw_at lw_m6 178 rfl) rfl
theorem q1510 : (Jvm.Cond.fieldLink "TreePressModel" (82 : Nat) "TreePressModel" "specMany" "[I") ∈ lw_all := lw_g (lw_at lw_m6 179 rfl) rfl
theorem q1511 : (Jvm.Cond.fieldLink "TreePressModel" (85 : Nat) "TreePressModel" "specFrom" "[I") ∈ lw_all := lw_g (lw_at lw_m6 180 rfl) rfl
theorem q1512 : (Jvm.Cond.fieldLink "TreePressModel" (88 : Nat) "TreePressModel" "specSize" "[I") ∈ lw_all := lw_g (lw_at lw_m6 181 rfl) rfl
theorem q1513 : (Jvm.Cond.fieldLink "TreePressModel" (91 : Nat) "TreePressModel" "firsts" "[J") ∈ lw_all := lw_g (lw_at lw_m6 182 rfl) rfl
theorem q1514 : (Jvm.Cond.fieldLink "TreePressModel" (95 : Nat) "TreePressModel" "lasts" "[J") ∈ lw_all := lw_g (lw_at lw_m6 183 rfl) rfl
theorem q1515 : (Jvm.Cond.fieldLink "TreePressModel" (98 : Nat) "TreePressModel" "mayBeNone" "[Z") ∈ lw_all := lw_g (lw_at lw_m6 184 rfl) rfl
theorem q1516 : (Jvm.Cond.fieldLink "TreePressModel" (101 : Nat) "TreePressModel" "follows" "[J") ∈ lw_all := lw_g (lw_at lw_m6 185 rfl) rfl
theorem q1517 : (Jvm.Cond.fieldLink "TreePressModel" (104 : Nat) "TreePressModel" "rules" "[I") ∈ lw_all := lw_g (lw_at lw_m6 186 rfl) rfl
theorem q1518 : (Jvm.Cond.fieldLink "TreePressModel" (107 : Nat) "TreePressModel" "ruleOfFrom" "[I") ∈ lw_all := lw_g (lw_at lw_m6 187 rfl) rfl
theorem q1519 : (Jvm.Cond.fieldLink "TreePressModel" (110 : Nat) "TreePressModel" "ruleOfSize" "[I") ∈ lw_all := lw_g (lw_at lw_m6 188 rfl) rfl
theorem q1520 : (Jvm.Cond.fieldLink "TreePressModel" (113 : Nat) "TreePressModel" "ruleFrom" "[I") ∈ lw_all := lw_g (lw_at lw_m6 189 rfl) rfl
theorem q1521 : (Jvm.Cond.fieldLink "TreePressModel" (116 : Nat) "TreePressModel" "ruleSize" "[I") ∈ lw_all := lw_g (lw_at lw_m6 190 rfl) rfl
theorem q1522 : (Jvm.Cond.fieldLink "TreePressModel" (119 : Nat) "TreePressModel" "ruleType" "[I") ∈ lw_all := lw_g (lw_at lw_m6 191 rfl) rfl
theorem q1523 : (Jvm.Cond.fieldLink "TreePressModel" (122 : Nat) "TreePressModel" "ruleHow" "[I") ∈ lw_all := lw_g (lw_at lw_m6 192 rfl) rfl
theorem q1524 : (Jvm.Cond.fieldLink "TreePressModel" (125 : Nat) "TreePressModel" "ruleValue" "[I") ∈ lw_all := lw_g (lw_at lw_m6 193 rfl) rfl
theorem q1525 : (Jvm.Cond.fieldLink "TreePressModel" (128 : Nat) "TreePressModel" "ruleValueSize" "[I") ∈ lw_all := lw_g (lw_at lw_m6 194 rfl) rfl
theorem q1526 : (Jvm.Cond.fieldLink "TreePressModel" (131 : Nat) "TreePressModel" "tokenMany" "[I") ∈ lw_all := lw_g (lw_at lw_m6 195 rfl) rfl
theorem q1527 : (Jvm.Cond.fieldLink "TreePressModel" (134 : Nat) "TreePressModel" "tokenFrom" "[I") ∈ lw_all := lw_g (lw_at lw_m6 196 rfl) rfl
theorem q1528 : (Jvm.Cond.fieldLink "TreePressModel" (137 : Nat) "TreePressModel" "tokenSize" "[I") ∈ lw_all := lw_g (lw_at lw_m6 197 rfl) rfl
theorem q1529 : (Jvm.Cond.fieldLink "TreePressModel" (140 : Nat) "TreePressModel" "stood" "[I") ∈ lw_all := lw_g (lw_at lw_m6 198 rfl) rfl
theorem q1530 : (Jvm.Cond.fieldLink "TreePressModel" (143 : Nat) "TreePressModel" "stoodMany" "[I") ∈ lw_all := lw_g (lw_at lw_m6 199 rfl) rfl
theorem q1531 : (Jvm.Cond.fieldLink "TreePressModel" (306 : Nat) "TreePressModel" "sized" "I") ∈ lw_all := lw_g (lw_at lw_m6 200 rfl) rfl
theorem q1532 : (Jvm.Cond.fieldLink "TreePressModel" (309 : Nat) "TreePressModel" "byRef" "Z") ∈ lw_all := lw_g (lw_at lw_m6 201 rfl) rfl
theorem q1533 : (Jvm.Cond.fieldLink "TreePressModel" (146 : Nat) "TreePressModel" "signs" "[I") ∈ lw_all := lw_g (lw_at lw_m6 202 rfl) rfl
theorem q1534 : (Jvm.Cond.fieldLink "TreePressModel" (149 : Nat) "TreePressModel" "begun" "[Z") ∈ lw_all := lw_g (lw_at lw_m6 203 rfl) rfl
theorem q1535 : (Jvm.Cond.fieldLink "TreePressModel" (152 : Nat) "TreePressModel" "none" "[Z") ∈ lw_all := lw_g (lw_at lw_m6 204 rfl) rfl
theorem q1536 : (Jvm.Cond.fieldLink "TreePressModel" (155 : Nat) "TreePressModel" "first" "[J") ∈ lw_all := lw_g (lw_at lw_m6 205 rfl) rfl
theorem q1537 : (Jvm.Cond.fieldLink "TreePressModel" (158 : Nat) "TreePressModel" "last" "[J") ∈ lw_all := lw_g (lw_at lw_m6 206 rfl) rfl
theorem q1538 : (Jvm.Cond.fieldLink "TreePressModel" (397 : Nat) "TreePressModel" "partNone" "Z") ∈ lw_all := lw_g (lw_at lw_m6 207 rfl) rfl
theorem q1539 : (Jvm.Cond.fieldLink "TreePressModel" (390 : Nat) "TreePressModel" "partFirst" "J") ∈ lw_all := lw_g (lw_at lw_m6 208 rfl) rfl
theorem q1540 : (Jvm.Cond.fieldLink "TreePressModel" (386 : Nat) "TreePressModel" "partLast" "J") ∈ lw_all := lw_g (lw_at lw_m6 209 rfl) rfl
theorem q1541 : (Jvm.Cond.fieldLink "TreePressModel" (409 : Nat) "TreePressModel" "rulesOf" "I") ∈ lw_all := lw_g (lw_at lw_m6 210 rfl) rfl
theorem q1542 : (Jvm.Cond.fieldLink "TreePressModel" (161 : Nat) "TreePressModel" "open" "[I") ∈ lw_all := lw_g (lw_at lw_m6 211 rfl) rfl
theorem q1543 : (Jvm.Cond.fieldLink "TreePressModel" (443 : Nat) "TreePressModel" "deep" "I") ∈ lw_all := lw_g (lw_at lw_m6 212 rfl) rfl
theorem q1544 : (Jvm.Cond.fieldLink "TreePressModel" (510 : Nat) "TreePressModel" "findings" "I") ∈ lw_all := lw_g (lw_at lw_m6 213 rfl) rfl
theorem q1545 : (Jvm.Cond.fieldLink "TreePressModel" (164 : Nat) "TreePressModel" "found" "[I") ∈ lw_all := lw_g (lw_at lw_m6 214 rfl) rfl
theorem q1546 : (Jvm.Cond.fieldLink "TreePressModel" (167 : Nat) "TreePressModel" "foundAt" "[I") ∈ lw_all := lw_g (lw_at lw_m6 215 rfl) rfl
theorem q1547 : (Jvm.Cond.fieldLink "TreePressModel" (504 : Nat) "TreePressModel" "tolds" "I") ∈ lw_all := lw_g (lw_at lw_m6 216 rfl) rfl
theorem q1548 : (Jvm.Cond.fieldLink "TreePressModel" (170 : Nat) "TreePressModel" "tolds0" "[I") ∈ lw_all := lw_g (lw_at lw_m6 217 rfl) rfl
theorem q1549 : (Jvm.Cond.fieldLink "TreePressModel" (173 : Nat) "TreePressModel" "so" "[Z") ∈ lw_all := lw_g (lw_at lw_m6 218 rfl) rfl
theorem q1550 : (Jvm.Cond.fieldLink "TreePressModel" (176 : Nat) "TreePressModel" "then" "[Z") ∈ lw_all := lw_g (lw_at lw_m6 219 rfl) rfl
theorem q1551 : (Jvm.Cond.fieldLink "TreePressModel" (179 : Nat) "TreePressModel" "mine" "[Z") ∈ lw_all := lw_g (lw_at lw_m6 220 rfl) rfl
theorem q1552 : (Jvm.Cond.fieldLink "TreePressModel" (182 : Nat) "TreePressModel" "stepHow" "[I") ∈ lw_all := lw_g (lw_at lw_m6 221 rfl) rfl
theorem q1553 : (Jvm.Cond.fieldLink "TreePressModel" (185 : Nat) "TreePressModel" "stepDeep" "[Z") ∈ lw_all := lw_g (lw_at lw_m6 222 rfl) rfl
theorem q1554 : (Jvm.Cond.fieldLink "TreePressModel" (188 : Nat) "TreePressModel" "stepFrom" "[I") ∈ lw_all := lw_g (lw_at lw_m6 223 rfl) rfl
theorem q1555 : (Jvm.Cond.fieldLink "TreePressModel" (191 : Nat) "TreePressModel" "stepSize" "[I") ∈ lw_all := lw_g (lw_at lw_m6 224 rfl) rfl
theorem q1556 : (Jvm.Cond.fieldLink "TreePressModel" (194 : Nat) "TreePressModel" "filterMany" "[I") ∈ lw_all := lw_g (lw_at lw_m6 225 rfl) rfl
theorem q1557 : (Jvm.Cond.fieldLink "TreePressModel" (197 : Nat) "TreePressModel" "filterHow" "[I") ∈ lw_all := lw_g (lw_at lw_m6 226 rfl) rfl
theorem q1558 : (Jvm.Cond.fieldLink "TreePressModel" (200 : Nat) "TreePressModel" "filterFrom" "[I") ∈ lw_all := lw_g (lw_at lw_m6 227 rfl) rfl
theorem q1559 : (Jvm.Cond.fieldLink "TreePressModel" (203 : Nat) "TreePressModel" "filterSize" "[I") ∈ lw_all := lw_g (lw_at lw_m6 228 rfl) rfl
theorem q1560 : (Jvm.Cond.fieldLink "TreePressModel" (206 : Nat) "TreePressModel" "filterOfAttribute" "[Z") ∈ lw_all := lw_g (lw_at lw_m6 229 rfl) rfl
theorem q1561 : (Jvm.Cond.fieldLink "TreePressModel" (209 : Nat) "TreePressModel" "quotedFrom" "[I") ∈ lw_all := lw_g (lw_at lw_m6 230 rfl) rfl
theorem q1562 : (Jvm.Cond.fieldLink "TreePressModel" (212 : Nat) "TreePressModel" "quotedSize" "[I") ∈ lw_all := lw_g (lw_at lw_m6 231 rfl) rfl
theorem q1563 : (Jvm.Cond.fieldLink "TreePressModel" (569 : Nat) "TreePressModel" "steps" "I") ∈ lw_all := lw_g (lw_at lw_m6 232 rfl) rfl
theorem q1564 : (Jvm.Cond.fieldLink "TreePressModel" (579 : Nat) "TreePressModel" "fromRoot" "Z") ∈ lw_all := lw_g (lw_at lw_m6 233 rfl) rfl
theorem q1565 : (Jvm.Cond.fieldLink "TreePressModel" (501 : Nat) "TreePressModel" "lines" "I") ∈ lw_all := lw_g (lw_at lw_m6 234 rfl) rfl
theorem q1566 : (Jvm.Cond.fieldLink "TreePressModel" (661 : Nat) "TreePressModel" "pages" "I") ∈ lw_all := lw_g (lw_at lw_m6 235 rfl) rfl
theorem q1567 : (Jvm.Cond.fieldLink "TreePressModel" (216 : Nat) "TreePressModel" "lineBytes" "[B") ∈ lw_all := lw_g (lw_at lw_m6 236 rfl) rfl
theorem q1568 : (Jvm.Cond.fieldLink "TreePressModel" (219 : Nat) "TreePressModel" "lineSize" "[I") ∈ lw_all := lw_g (lw_at lw_m6 237 rfl) rfl
theorem q1569 : (Jvm.Cond.fieldLink "TreePressModel" (222 : Nat) "TreePressModel" "linePage" "[I") ∈ lw_all := lw_g (lw_at lw_m6 238 rfl) rfl
theorem q1570 : (Jvm.Cond.fieldLink "TreePressModel" (225 : Nat) "TreePressModel" "linePlace" "[I") ∈ lw_all := lw_g (lw_at lw_m6 239 rfl) rfl
theorem q1571 : (Jvm.Cond.fieldLink "TreePressModel" (228 : Nat) "TreePressModel" "lineText" "[I") ∈ lw_all := lw_g (lw_at lw_m7 0 rfl) rfl
theorem q1572 : (Jvm.Cond.fieldLink "TreePressModel" (231 : Nat) "TreePressModel" "blockFrom" "[I") ∈ lw_all := lw_g (lw_at lw_m7 1 rfl) rfl
theorem q1573 : (Jvm.Cond.fieldLink "TreePressModel" (234 : Nat) "TreePressModel" "blockTo" "[I") ∈ lw_all := lw_g (lw_at lw_m7 2 rfl) rfl
theorem q1574 : (Jvm.Cond.fieldLink "TreePressModel" (639 : Nat) "TreePressModel" "blocks" "I") ∈ lw_all := lw_g (lw_at lw_m7 3 rfl) rfl
theorem q1575 : (Jvm.Cond.fieldLink "TreePressModel" (237 : Nat) "TreePressModel" "word" "[B") ∈ lw_all := lw_g (lw_at lw_m7 4 rfl) rfl
theorem q1576 : (Jvm.Cond.fieldLink "TreePressModel" (240 : Nat) "TreePressModel" "wordText" "[I") ∈ lw_all := lw_g (lw_at lw_m7 5 rfl) rfl
theorem q1577 : (Jvm.Cond.fieldLink "TreePressModel" (621 : Nat) "TreePressModel" "wordSize" "I") ∈ lw_all := lw_g (lw_at lw_m7 6 rfl) rfl
theorem q1578 : (Jvm.Cond.fieldLink "TreePressModel" (618 : Nat) "TreePressModel" "isOpenLine" "Z") ∈ lw_all := lw_g (lw_at lw_m7 7 rfl) rfl
theorem q1579 : (Jvm.Cond.fieldLink "TreePressModel" (624 : Nat) "TreePressModel" "wide" "I") ∈ lw_all := lw_g (lw_at lw_m7 8 rfl) rfl
theorem q1580 : (Jvm.Cond.fieldLink "TreePressModel" (243 : Nat) "TreePressModel" "blockOf" "[I") ∈ lw_all := lw_g (lw_at lw_m7 9 rfl) rfl
theorem q1581 : (Jvm.Cond.laysFinal "TreePressModel" "TreePressModel" "tape" "[B") ∈ lw_all := lw_g (lw_at lw_m7 10 rfl) rfl
theorem q1582 : (Jvm.Cond.soleField "TreePressModel" "tape") ∈ lw_all := lw_g (lw_at lw_m7 11 rfl) rfl
theorem q1583 : (Jvm.Cond.lays "TreePressModel" "TreePressModel" "taped" "I") ∈ lw_all := lw_g (lw_at lw_m7 12 rfl) rfl
theorem q1584 : (Jvm.Cond.soleField "TreePressModel" "taped") ∈ lw_all := lw_g (lw_at lw_m7 13 rfl) rfl
theorem q1585 : (Jvm.Cond.laysFinal "TreePressModel" "TreePressModel" "row" "[B") ∈ lw_all := lw_g (lw_at lw_m7 14 rfl) rfl
theorem q1586 : (Jvm.Cond.soleField "TreePressModel" "row") ∈ lw_all := lw_g (lw_at lw_m7 15 rfl) rfl
theorem q1587 : (Jvm.Cond.lays "TreePressModel" "TreePressModel" "size" "I") ∈ lw_all := lw_g (lw_at lw_m7 16 rfl) rfl
theorem q1588 : (Jvm.Cond.soleField "TreePressModel" "size") ∈ lw_all := lw_g (lw_at lw_m7 17 rfl) rfl
theorem q1589 : (Jvm.Cond.lays "TreePressModel" "TreePressModel" "at" "I") ∈ lw_all := lw_g (lw_at lw_m7 18 rfl) rfl
theorem q1590 : (Jvm.Cond.soleField "TreePressModel" "at") ∈ lw_all := lw_g (lw_at lw_m7 19 rfl) rfl
theorem q1591 : (Jvm.Cond.lays "TreePressModel" "TreePressModel" "wrong" "I") ∈ lw_all := lw_g (lw_at lw_m7 20 rfl) rfl
theorem q1592 : (Jvm.Cond.soleField "TreePressModel" "wrong") ∈ lw_all := lw_g (lw_at lw_m7 21 rfl) rfl
theorem q1593 : (Jvm.Cond.lays "TreePressModel" "TreePressModel" "place" "I") ∈ lw_all := lw_g (lw_at lw_m7 22 rfl) rfl
theorem q1594 : (Jvm.Cond.soleField "TreePressModel" "place") ∈ lw_all := lw_g (lw_at lw_m7 23 rfl) rfl
theorem q1595 : (Jvm.Cond.lays "TreePressModel" "TreePressModel" "bank" "I") ∈ lw_all := lw_g (lw_at lw_m7 24 rfl) rfl
theorem q1596 : (Jvm.Cond.soleField "TreePressModel" "bank") ∈ lw_all := lw_g (lw_at lw_m7 25 rfl) rfl
theorem q1597 : (Jvm.Cond.lays "TreePressModel" "TreePressModel" "b" "I") ∈ lw_all := lw_g (lw_at lw_m7 26 rfl) rfl
theorem q1598 : (Jvm.Cond.soleField "TreePressModel" "b") ∈ lw_all := lw_g (lw_at lw_m7 27 rfl) rfl
theorem q1599 : (Jvm.Cond.lays "TreePressModel" "TreePressModel" "isThere" "Z") ∈ lw_all := lw_g (lw_at lw_m7 28 rfl) rfl
theorem q1600 : (Jvm.Cond.soleField "TreePressModel" "isThere") ∈ lw_all := lw_g (lw_at lw_m7 29 rfl) rfl
theorem q1601 : (Jvm.Cond.laysFinal "TreePressModel" "TreePressModel" "hasType" "[Z") ∈ lw_all := lw_g (lw_at lw_m7 30 rfl) rfl
theorem q1602 : (Jvm.Cond.soleField "TreePressModel" "hasType") ∈ lw_all := lw_g (lw_at lw_m7 31 rfl) rfl
theorem q1603 : (Jvm.Cond.laysFinal "TreePressModel" "TreePressModel" "texts" "[B") ∈ lw_all := lw_g (lw_at lw_m7 32 rfl) rfl
theorem q1604 : (Jvm.Cond.soleField "TreePressModel" "texts") ∈ lw_all := lw_g (lw_at lw_m7 33 rfl) rfl
theorem q1605 : (Jvm.Cond.laysFinal "TreePressModel" "TreePressModel" "nodes" "[I") ∈ lw_all := lw_g (lw_at lw_m7 34 rfl) rfl
theorem q1606 : (Jvm.Cond.soleField "TreePressModel" "nodes") ∈ lw_all := lw_g (lw_at lw_m7 35 rfl) rfl
theorem q1607 : (Jvm.Cond.laysFinal "TreePressModel" "TreePressModel" "kind" "[I") ∈ lw_all := lw_g (lw_at lw_m7 36 rfl) rfl
theorem q1608 : (Jvm.Cond.soleField "TreePressModel" "kind") ∈ lw_all := lw_g (lw_at lw_m7 37 rfl) rfl
theorem q1609 : (Jvm.Cond.laysFinal "TreePressModel" "TreePressModel" "up" "[I") ∈ lw_all := lw_g (lw_at lw_m7 38 rfl) rfl
theorem q1610 : (Jvm.Cond.soleField "TreePressModel" "up") ∈ lw_all := lw_g (lw_at lw_m7 39 rfl) rfl
theorem q1611 : (Jvm.Cond.laysFinal "TreePressModel" "TreePressModel" "nameFrom" "[I") ∈ lw_all := lw_g (lw_at lw_m7 40 rfl) rfl
theorem q1612 : (Jvm.Cond.soleField "TreePressModel" "nameFrom") ∈ lw_all := lw_g (lw_at lw_m7 41 rfl) rfl
theorem q1613 : (Jvm.Cond.laysFinal "TreePressModel" "TreePressModel" "nameSize" "[I") ∈ lw_all := lw_g (lw_at lw_m7 42 rfl) rfl
theorem q1614 : (Jvm.Cond.soleField "TreePressModel" "nameSize") ∈ lw_all := lw_g (lw_at lw_m7 43 rfl) rfl
theorem q1615 : (Jvm.Cond.laysFinal "TreePressModel" "TreePressModel" "stringFrom" "[I") ∈ lw_all := lw_g (lw_at lw_m7 44 rfl) rfl
theorem q1616 : (Jvm.Cond.soleField "TreePressModel" "stringFrom") ∈ lw_all := lw_g (lw_at lw_m7 45 rfl) rfl
theorem q1617 : (Jvm.Cond.laysFinal "TreePressModel" "TreePressModel" "stringSize" "[I") ∈ lw_all := lw_g (lw_at lw_m7 46 rfl) rfl
theorem q1618 : (Jvm.Cond.soleField "TreePressModel" "stringSize") ∈ lw_all := lw_g (lw_at lw_m7 47 rfl) rfl
theorem q1619 : (Jvm.Cond.laysFinal "TreePressModel" "TreePressModel" "byDefault" "[Z") ∈ lw_all := lw_g (lw_at lw_m7 48 rfl) rfl
theorem q1620 : (Jvm.Cond.soleField "TreePressModel" "byDefault") ∈ lw_all := lw_g (lw_at lw_m7 49 rfl) rfl
theorem q1621 : (Jvm.Cond.laysFinal "TreePressModel" "TreePressModel" "isBlank" "[Z") ∈ lw_all := lw_g (lw_at lw_m7 50 rfl) rfl
theorem q1622 : (Jvm.Cond.soleField "TreePressModel" "isBlank") ∈ lw_all := lw_g (lw_at lw_m7 51 rfl) rfl
theorem q1623 : (Jvm.Cond.laysFinal "TreePressModel" "TreePressModel" "pool" "[B") ∈ lw_all := lw_g (lw_at lw_m7 52 rfl) rfl
theorem q1624 : (Jvm.Cond.soleField "TreePressModel" "pool") ∈ lw_all := lw_g (lw_at lw_m7 53 rfl) rfl
theorem q1625 : (Jvm.Cond.laysFinal "TreePressModel" "TreePressModel" "pooled" "[I") ∈ lw_all := lw_g (lw_at lw_m7 54 rfl) rfl
theorem q1626 : (Jvm.Cond.soleField "TreePressModel" "pooled") ∈ lw_all := lw_g (lw_at lw_m7 55 rfl) rfl
theorem q1627 : (Jvm.Cond.laysFinal "TreePressModel" "TreePressModel" "deepest" "[I") ∈ lw_all := lw_g (lw_at lw_m7 56 rfl) rfl
theorem q1628 : (Jvm.Cond.soleField "TreePressModel" "deepest") ∈ lw_all := lw_g (lw_at lw_m7 57 rfl) rfl
theorem q1629 : (Jvm.Cond.laysFinal "TreePressModel" "TreePressModel" "typeFrom" "[I") ∈ lw_all := lw_g (lw_at lw_m7 58 rfl) rfl
theorem q1630 : (Jvm.Cond.soleField "TreePressModel" "typeFrom") ∈ lw_all := lw_g (lw_at lw_m7 59 rfl) rfl
theorem q1631 : (Jvm.Cond.laysFinal "TreePressModel" "TreePressModel" "typeSize" "[I") ∈ lw_all := lw_g (lw_at lw_m7 60 rfl) rfl
theorem q1632 : (Jvm.Cond.soleField "TreePressModel" "typeSize") ∈ lw_all := lw_g (lw_at lw_m7 61 rfl) rfl
theorem q1633 : (Jvm.Cond.laysFinal "TreePressModel" "TreePressModel" "decls" "[I") ∈ lw_all := lw_g (lw_at lw_m7 62 rfl) rfl
theorem q1634 : (Jvm.Cond.soleField "TreePressModel" "decls") ∈ lw_all := lw_g (lw_at lw_m7 63 rfl) rfl
theorem q1635 : (Jvm.Cond.laysFinal "TreePressModel" "TreePressModel" "declFrom" "[I") ∈ lw_all := lw_g (lw_at lw_m7 64 rfl) rfl
theorem q1636 : (Jvm.Cond.soleField "TreePressModel" "declFrom") ∈ lw_all := lw_g (lw_at lw_m7 65 rfl) rfl
theorem q1637 : (Jvm.Cond.laysFinal "TreePressModel" "TreePressModel" "declSize" "[I") ∈ lw_all := lw_g (lw_at lw_m7 66 rfl) rfl
theorem q1638 : (Jvm.Cond.soleField "TreePressModel" "declSize") ∈ lw_all := lw_g (lw_at lw_m7 67 rfl) rfl
theorem q1639 : (Jvm.Cond.laysFinal "TreePressModel" "TreePressModel" "spec" "[I") ∈ lw_all := lw_g (lw_at lw_m7 68 rfl) rfl
theorem q1640 : (Jvm.Cond.soleField "TreePressModel" "spec") ∈ lw_all := lw_g (lw_at lw_m7 69 rfl) rfl
theorem q1641 : (Jvm.Cond.laysFinal "TreePressModel" "TreePressModel" "specMany" "[I") ∈ lw_all := lw_g (lw_at lw_m7 70 rfl) rfl
theorem q1642 : (Jvm.Cond.soleField "TreePressModel" "specMany") ∈ lw_all := lw_g (lw_at lw_m7 71 rfl) rfl
theorem q1643 : (Jvm.Cond.laysFinal "TreePressModel" "TreePressModel" "specFrom" "[I") ∈ lw_all := lw_g (lw_at lw_m7 72 rfl) rfl
theorem q1644 : (Jvm.Cond.soleField "TreePressModel" "specFrom") ∈ lw_all := lw_g (lw_at lw_m7 73 rfl) rfl
theorem q1645 : (Jvm.Cond.laysFinal "TreePressModel" "TreePressModel" "specSize" "[I") ∈ lw_all := lw_g (lw_at lw_m7 74 rfl) rfl
theorem q1646 : (Jvm.Cond.soleField "TreePressModel" "specSize") ∈ lw_all := lw_g (lw_at lw_m7 75 rfl) rfl
theorem q1647 : (Jvm.Cond.laysFinal "TreePressModel" "TreePressModel" "firsts" "[J") ∈ lw_all := lw_g (lw_at lw_m7 76 rfl) rfl
theorem q1648 : (Jvm.Cond.soleField "TreePressModel" "firsts") ∈ lw_all := lw_g (lw_at lw_m7 77 rfl) rfl
theorem q1649 : (Jvm.Cond.laysFinal "TreePressModel" "TreePressModel" "lasts" "[J") ∈ lw_all := lw_g (lw_at lw_m7 78 rfl) rfl
theorem q1650 : (Jvm.Cond.soleField "TreePressModel" "lasts") ∈ lw_all := lw_g (lw_at lw_m7 79 rfl) rfl
theorem q1651 : (Jvm.Cond.laysFinal "TreePressModel" "TreePressModel" "mayBeNone" "[Z") ∈ lw_all := lw_g (lw_at lw_m7 80 rfl) rfl
theorem q1652 : (Jvm.Cond.soleField "TreePressModel" "mayBeNone") ∈ lw_all := lw_g (lw_at lw_m7 81 rfl) rfl
theorem q1653 : (Jvm.Cond.laysFinal "TreePressModel" "TreePressModel" "follows" "[J") ∈ lw_all := lw_g (lw_at lw_m7 82 rfl) rfl
theorem q1654 : (Jvm.Cond.soleField "TreePressModel" "follows") ∈ lw_all := lw_g (lw_at lw_m7 83 rfl) rfl
theorem q1655 : (Jvm.Cond.laysFinal "TreePressModel" "TreePressModel" "rules" "[I") ∈ lw_all := lw_g (lw_at lw_m7 84 rfl) rfl
theorem q1656 : (Jvm.Cond.soleField "TreePressModel" "rules") ∈ lw_all := lw_g (lw_at lw_m7 85 rfl) rfl
theorem q1657 : (Jvm.Cond.laysFinal "TreePressModel" "TreePressModel" "ruleOfFrom" "[I") ∈ lw_all := lw_g (lw_at lw_m7 86 rfl) rfl
theorem q1658 : (Jvm.Cond.soleField "TreePressModel" "ruleOfFrom") ∈ lw_all := lw_g (lw_at lw_m7 87 rfl) rfl
theorem q1659 : (Jvm.Cond.laysFinal "TreePressModel" "TreePressModel" "ruleOfSize" "[I") ∈ lw_all := lw_g (lw_at lw_m7 88 rfl) rfl
theorem q1660 : (Jvm.Cond.soleField "TreePressModel" "ruleOfSize") ∈ lw_all := lw_g (lw_at lw_m7 89 rfl) rfl
theorem q1661 : (Jvm.Cond.laysFinal "TreePressModel" "TreePressModel" "ruleFrom" "[I") ∈ lw_all := lw_g (lw_at lw_m7 90 rfl) rfl
theorem q1662 : (Jvm.Cond.soleField "TreePressModel" "ruleFrom") ∈ lw_all := lw_g (lw_at lw_m7 91 rfl) rfl
theorem q1663 : (Jvm.Cond.laysFinal "TreePressModel" "TreePressModel" "ruleSize" "[I") ∈ lw_all := lw_g (lw_at lw_m7 92 rfl) rfl
theorem q1664 : (Jvm.Cond.soleField "TreePressModel" "ruleSize") ∈ lw_all := lw_g (lw_at lw_m7 93 rfl) rfl
theorem q1665 : (Jvm.Cond.laysFinal "TreePressModel" "TreePressModel" "ruleType" "[I") ∈ lw_all := lw_g (lw_at lw_m7 94 rfl) rfl
theorem q1666 : (Jvm.Cond.soleField "TreePressModel" "ruleType") ∈ lw_all := lw_g (lw_at lw_m7 95 rfl) rfl
theorem q1667 : (Jvm.Cond.laysFinal "TreePressModel" "TreePressModel" "ruleHow" "[I") ∈ lw_all := lw_g (lw_at lw_m7 96 rfl) rfl
theorem q1668 : (Jvm.Cond.soleField "TreePressModel" "ruleHow") ∈ lw_all := lw_g (lw_at lw_m7 97 rfl) rfl
theorem q1669 : (Jvm.Cond.laysFinal "TreePressModel" "TreePressModel" "ruleValue" "[I") ∈ lw_all := lw_g (lw_at lw_m7 98 rfl) rfl
theorem q1670 : (Jvm.Cond.soleField "TreePressModel" "ruleValue") ∈ lw_all := lw_g (lw_at lw_m7 99 rfl) rfl
theorem q1671 : (Jvm.Cond.laysFinal "TreePressModel" "TreePressModel" "ruleValueSize" "[I") ∈ lw_all := lw_g (lw_at lw_m7 100 rfl) rfl
theorem q1672 : (Jvm.Cond.soleField "TreePressModel" "ruleValueSize") ∈ lw_all := lw_g (lw_at lw_m7 101 rfl) rfl
theorem q1673 : (Jvm.Cond.laysFinal "TreePressModel" "TreePressModel" "tokenMany" "[I") ∈ lw_all := lw_g (lw_at lw_m7 102 rfl) rfl
theorem q1674 : (Jvm.Cond.soleField "TreePressModel" "tokenMany") ∈ lw_all := lw_g (lw_at lw_m7 103 rfl) rfl
theorem q1675 : (Jvm.Cond.laysFinal "TreePressModel" "TreePressModel" "tokenFrom" "[I") ∈ lw_all := lw_g (lw_at lw_m7 104 rfl) rfl
theorem q1676 : (Jvm.Cond.soleField "TreePressModel" "tokenFrom") ∈ lw_all := lw_g (lw_at lw_m7 105 rfl) rfl
theorem q1677 : (Jvm.Cond.laysFinal "TreePressModel" "TreePressModel" "tokenSize" "[I") ∈ lw_all := lw_g (lw_at lw_m7 106 rfl) rfl
theorem q1678 : (Jvm.Cond.soleField "TreePressModel" "tokenSize") ∈ lw_all := lw_g (lw_at lw_m7 107 rfl) rfl
theorem q1679 : (Jvm.Cond.laysFinal "TreePressModel" "TreePressModel" "stood" "[I") ∈ lw_all := lw_g (lw_at lw_m7 108 rfl) rfl
theorem q1680 : (Jvm.Cond.soleField "TreePressModel" "stood") ∈ lw_all := lw_g (lw_at lw_m7 109 rfl) rfl
theorem q1681 : (Jvm.Cond.laysFinal "TreePressModel" "TreePressModel" "stoodMany" "[I") ∈ lw_all := lw_g (lw_at lw_m7 110 rfl) rfl
theorem q1682 : (Jvm.Cond.soleField "TreePressModel" "stoodMany") ∈ lw_all := lw_g (lw_at lw_m7 111 rfl) rfl
theorem q1683 : (Jvm.Cond.lays "TreePressModel" "TreePressModel" "sized" "I") ∈ lw_all := lw_g (lw_at lw_m7 112 rfl) rfl
theorem q1684 : (Jvm.Cond.soleField "TreePressModel" "sized") ∈ lw_all := lw_g (lw_at lw_m7 113 rfl) rfl
theorem q1685 : (Jvm.Cond.lays "TreePressModel" "TreePressModel" "byRef" "Z") ∈ lw_all := lw_g (lw_at lw_m7 114 rfl) rfl
theorem q1686 : (Jvm.Cond.soleField "TreePressModel" "byRef") ∈ lw_all := lw_g (lw_at lw_m7 115 rfl) rfl
theorem q1687 : (Jvm.Cond.lays "TreePressModel" "TreePressModel" "piece" "I") ∈ lw_all := lw_g (lw_at lw_m7 116 rfl) rfl
theorem q1688 : (Jvm.Cond.soleField "TreePressModel" "piece") ∈ lw_all := lw_g (lw_at lw_m7 117 rfl) rfl
theorem q1689 : (Jvm.Cond.laysFinal "TreePressModel" "TreePressModel" "signs" "[I") ∈ lw_all := lw_g (lw_at lw_m7 118 rfl) rfl
theorem q1690 : (Jvm.Cond.soleField "TreePressModel" "signs") ∈ lw_all := lw_g (lw_at lw_m7 119 rfl) rfl
theorem q1691 : (Jvm.Cond.laysFinal "TreePressModel" "TreePressModel" "begun" "[Z") ∈ lw_all := lw_g (lw_at lw_m7 120 rfl) rfl
theorem q1692 : (Jvm.Cond.soleField "TreePressModel" "begun") ∈ lw_all := lw_g (lw_at lw_m7 121 rfl) rfl
theorem q1693 : (Jvm.Cond.laysFinal "TreePressModel" "TreePressModel" "none" "[Z") ∈ lw_all := lw_g (lw_at lw_m7 122 rfl) rfl
theorem q1694 : (Jvm.Cond.soleField "TreePressModel" "none") ∈ lw_all := lw_g (lw_at lw_m7 123 rfl) rfl
theorem q1695 : (Jvm.Cond.laysFinal "TreePressModel" "TreePressModel" "first" "[J") ∈ lw_all := lw_g (lw_at lw_m7 124 rfl) rfl
theorem q1696 : (Jvm.Cond.soleField "TreePressModel" "first") ∈ lw_all := lw_g (lw_at lw_m7 125 rfl) rfl
theorem q1697 : (Jvm.Cond.laysFinal "TreePressModel" "TreePressModel" "last" "[J") ∈ lw_all := lw_g (lw_at lw_m7 126 rfl) rfl
theorem q1698 : (Jvm.Cond.soleField "TreePressModel" "last") ∈ lw_all := lw_g (lw_at lw_m7 127 rfl) rfl
theorem q1699 : (Jvm.Cond.lays "TreePressModel" "TreePressModel" "partNone" "Z") ∈ lw_all := lw_g (lw_at lw_m7 128 rfl) rfl
theorem q1700 : (Jvm.Cond.soleField "TreePressModel" "partNone") ∈ lw_all := lw_g (lw_at lw_m7 129 rfl) rfl
theorem q1701 : (Jvm.Cond.lays "TreePressModel" "TreePressModel" "partFirst" "J") ∈ lw_all := lw_g (lw_at lw_m7 130 rfl) rfl
theorem q1702 : (Jvm.Cond.soleField "TreePressModel" "partFirst") ∈ lw_all := lw_g (lw_at lw_m7 131 rfl) rfl
theorem q1703 : (Jvm.Cond.lays "TreePressModel" "TreePressModel" "partLast" "J") ∈ lw_all := lw_g (lw_at lw_m7 132 rfl) rfl
theorem q1704 : (Jvm.Cond.soleField "TreePressModel" "partLast") ∈ lw_all := lw_g (lw_at lw_m7 133 rfl) rfl
theorem q1705 : (Jvm.Cond.lays "TreePressModel" "TreePressModel" "rulesOf" "I") ∈ lw_all := lw_g (lw_at lw_m7 134 rfl) rfl
theorem q1706 : (Jvm.Cond.soleField "TreePressModel" "rulesOf") ∈ lw_all := lw_g (lw_at lw_m7 135 rfl) rfl
theorem q1707 : (Jvm.Cond.laysFinal "TreePressModel" "TreePressModel" "open" "[I") ∈ lw_all := lw_g (lw_at lw_m7 136 rfl) rfl
theorem q1708 : (Jvm.Cond.soleField "TreePressModel" "open") ∈ lw_all := lw_g (lw_at lw_m7 137 rfl) rfl
theorem q1709 : (Jvm.Cond.lays "TreePressModel" "TreePressModel" "deep" "I") ∈ lw_all := lw_g (lw_at lw_m7 138 rfl) rfl
theorem q1710 : (Jvm.Cond.soleField "TreePressModel" "deep") ∈ lw_all := lw_g (lw_at lw_m7 139 rfl) rfl
theorem q1711 : (Jvm.Cond.lays "TreePressModel" "TreePressModel" "findings" "I") ∈ lw_all := lw_g (lw_at lw_m7 140 rfl) rfl
theorem q1712 : (Jvm.Cond.soleField "TreePressModel" "findings") ∈ lw_all := lw_g (lw_at lw_m7 141 rfl) rfl
theorem q1713 : (Jvm.Cond.laysFinal "TreePressModel" "TreePressModel" "found" "[I") ∈ lw_all := lw_g (lw_at lw_m7 142 rfl) rfl
theorem q1714 : (Jvm.Cond.soleField "TreePressModel" "found") ∈ lw_all := lw_g (lw_at lw_m7 143 rfl) rfl
theorem q1715 : (Jvm.Cond.laysFinal "TreePressModel" "TreePressModel" "foundAt" "[I") ∈ lw_all := lw_g (lw_at lw_m7 144 rfl) rfl
theorem q1716 : (Jvm.Cond.soleField "TreePressModel" "foundAt") ∈ lw_all := lw_g (lw_at lw_m7 145 rfl) rfl
theorem q1717 : (Jvm.Cond.lays "TreePressModel" "TreePressModel" "tolds" "I") ∈ lw_all := lw_g (lw_at lw_m7 146 rfl) rfl
theorem q1718 : (Jvm.Cond.soleField "TreePressModel" "tolds") ∈ lw_all := lw_g (lw_at lw_m7 147 rfl) rfl
theorem q1719 : (Jvm.Cond.laysFinal "TreePressModel" "TreePressModel" "tolds0" "[I") ∈ lw_all := lw_g (lw_at lw_m7 148 rfl) rfl
theorem q1720 : (Jvm.Cond.soleField "TreePressModel" "tolds0") ∈ lw_all := lw_g (lw_at lw_m7 149 rfl) rfl
theorem q1721 : (Jvm.Cond.laysFinal "TreePressModel" "TreePressModel" "so" "[Z") ∈ lw_all := lw_g (lw_at lw_m7 150 rfl) rfl
theorem q1722 : (Jvm.Cond.soleField "TreePressModel" "so") ∈ lw_all := lw_g (lw_at lw_m7 151 rfl) rfl
theorem q1723 : (Jvm.Cond.laysFinal "TreePressModel" "TreePressModel" "then" "[Z") ∈ lw_all := lw_g (lw_at lw_m7 152 rfl) rfl
theorem q1724 : (Jvm.Cond.soleField "TreePressModel" "then") ∈ lw_all := lw_g (lw_at lw_m7 153 rfl) rfl
theorem q1725 : (Jvm.Cond.laysFinal "TreePressModel" "TreePressModel" "mine" "[Z") ∈ lw_all := lw_g (lw_at lw_m7 154 rfl) rfl
theorem q1726 : (Jvm.Cond.soleField "TreePressModel" "mine") ∈ lw_all := lw_g (lw_at lw_m7 155 rfl) rfl
theorem q1727 : (Jvm.Cond.laysFinal "TreePressModel" "TreePressModel" "stepHow" "[I") ∈ lw_all := lw_g (lw_at lw_m7 156 rfl) rfl
theorem q1728 : (Jvm.Cond.soleField "TreePressModel" "stepHow") ∈ lw_all := lw_g (lw_at lw_m7 157 rfl) rfl
theorem q1729 : (Jvm.Cond.laysFinal "TreePressModel" "TreePressModel" "stepDeep" "[Z") ∈ lw_all := lw_g (lw_at lw_m7 158 rfl) rfl
theorem q1730 : (Jvm.Cond.soleField "TreePressModel" "stepDeep") ∈ lw_all := lw_g (lw_at lw_m7 159 rfl) rfl
theorem q1731 : (Jvm.Cond.laysFinal "TreePressModel" "TreePressModel" "stepFrom" "[I") ∈ lw_all := lw_g (lw_at lw_m7 160 rfl) rfl
theorem q1732 : (Jvm.Cond.soleField "TreePressModel" "stepFrom") ∈ lw_all := lw_g (lw_at lw_m7 161 rfl) rfl
theorem q1733 : (Jvm.Cond.laysFinal "TreePressModel" "TreePressModel" "stepSize" "[I") ∈ lw_all := lw_g (lw_at lw_m7 162 rfl) rfl
theorem q1734 : (Jvm.Cond.soleField "TreePressModel" "stepSize") ∈ lw_all := lw_g (lw_at lw_m7 163 rfl) rfl
theorem q1735 : (Jvm.Cond.laysFinal "TreePressModel" "TreePressModel" "filterMany" "[I") ∈ lw_all := lw_g (lw_at lw_m7 164 rfl) rfl
theorem q1736 : (Jvm.Cond.soleField "TreePressModel" "filterMany") ∈ lw_all := lw_g (lw_at lw_m7 165 rfl) rfl
theorem q1737 : (Jvm.Cond.laysFinal "TreePressModel" "TreePressModel" "filterHow" "[I") ∈ lw_all := lw_g (lw_at lw_m7 166 rfl) rfl
theorem q1738 : (Jvm.Cond.soleField "TreePressModel" "filterHow") ∈ lw_all := lw_g (lw_at lw_m7 167 rfl) rfl
theorem q1739 : (Jvm.Cond.laysFinal "TreePressModel" "TreePressModel" "filterFrom" "[I") ∈ lw_all := lw_g (lw_at lw_m7 168 rfl) rfl
theorem q1740 : (Jvm.Cond.soleField "TreePressModel" "filterFrom") ∈ lw_all := lw_g (lw_at lw_m7 169 rfl) rfl
theorem q1741 : (Jvm.Cond.laysFinal "TreePressModel" "TreePressModel" "filterSize" "[I") ∈ lw_all := lw_g (lw_at lw_m7 170 rfl) rfl
theorem q1742 : (Jvm.Cond.soleField "TreePressModel" "filterSize") ∈ lw_all := lw_g (lw_at lw_m7 171 rfl) rfl
theorem q1743 : (Jvm.Cond.laysFinal "TreePressModel" "TreePressModel" "filterOfAttribute" "[Z") ∈ lw_all := lw_g (lw_at lw_m7 172 rfl) rfl
theorem q1744 : (Jvm.Cond.soleField "TreePressModel" "filterOfAttribute") ∈ lw_all := lw_g (lw_at lw_m7 173 rfl) rfl
theorem q1745 : (Jvm.Cond.laysFinal "TreePressModel" "TreePressModel" "quotedFrom" "[I") ∈ lw_all := lw_g (lw_at lw_m7 174 rfl) rfl
theorem q1746 : (Jvm.Cond.soleField "TreePressModel" "quotedFrom") ∈ lw_all := lw_g (lw_at lw_m7 175 rfl) rfl
theorem q1747 : (Jvm.Cond.laysFinal "TreePressModel" "TreePressModel" "quotedSize" "[I") ∈ lw_all := lw_g (lw_at lw_m7 176 rfl) rfl
theorem q1748 : (Jvm.Cond.soleField "TreePressModel" "quotedSize") ∈ lw_all := lw_g (lw_at lw_m7 177 rfl) rfl
theorem q1749 : (Jvm.Cond.lays "TreePressModel" "TreePressModel" "steps" "I") ∈ lw_all := lw_g (lw_at lw_m7 178 rfl) rfl
theorem q1750 : (Jvm.Cond.soleField "TreePressModel" "steps") ∈ lw_all := lw_g (lw_at lw_m7 179 rfl) rfl
theorem q1751 : (Jvm.Cond.lays "TreePressModel" "TreePressModel" "fromRoot" "Z") ∈ lw_all := lw_g (lw_at lw_m7 180 rfl) rfl
theorem q1752 : (Jvm.Cond.soleField "TreePressModel" "fromRoot") ∈ lw_all := lw_g (lw_at lw_m7 181 rfl) rfl
theorem q1753 : (Jvm.Cond.lays "TreePressModel" "TreePressModel" "lines" "I") ∈ lw_all := lw_g (lw_at lw_m7 182 rfl) rfl
theorem q1754 : (Jvm.Cond.soleField "TreePressModel" "lines") ∈ lw_all := lw_g (lw_at lw_m7 183 rfl) rfl
theorem q1755 : (Jvm.Cond.lays "TreePressModel" "TreePressModel" "pages" "I") ∈ lw_all := lw_g (lw_at lw_m7 184 rfl) rfl
theorem q1756 : (Jvm.Cond.soleField "TreePressModel" "pages") ∈ lw_all := lw_g (lw_at lw_m7 185 rfl) rfl
theorem q1757 : (Jvm.Cond.laysFinal "TreePressModel" "TreePressModel" "lineBytes" "[B") ∈ lw_all := lw_g (lw_at lw_m7 186 rfl) rfl
theorem q1758 : (Jvm.Cond.soleField "TreePressModel" "lineBytes") ∈ lw_all := lw_g (lw_at lw_m7 187 rfl) rfl
theorem q1759 : (Jvm.Cond.laysFinal "TreePressModel" "TreePressModel" "lineSize" "[I") ∈ lw_all := lw_g (lw_at lw_m7 188 rfl) rfl
theorem q1760 : (Jvm.Cond.soleField "TreePressModel" "lineSize") ∈ lw_all := lw_g (lw_at lw_m7 189 rfl) rfl
theorem q1761 : (Jvm.Cond.laysFinal "TreePressModel" "TreePressModel" "linePage" "[I") ∈ lw_all := lw_g (lw_at lw_m7 190 rfl) rfl
theorem q1762 : (Jvm.Cond.soleField "TreePressModel" "linePage") ∈ lw_all := lw_g (lw_at lw_m7 191 rfl) rfl
theorem q1763 : (Jvm.Cond.laysFinal "TreePressModel" "TreePressModel" "linePlace" "[I") ∈ lw_all := lw_g (lw_at lw_m7 192 rfl) rfl
theorem q1764 : (Jvm.Cond.soleField "TreePressModel" "linePlace") ∈ lw_all := lw_g (lw_at lw_m7 193 rfl) rfl
theorem q1765 : (Jvm.Cond.laysFinal "TreePressModel" "TreePressModel" "lineText" "[I") ∈ lw_all := lw_g (lw_at lw_m7 194 rfl) rfl
theorem q1766 : (Jvm.Cond.soleField "TreePressModel" "lineText") ∈ lw_all := lw_g (lw_at lw_m7 195 rfl) rfl
theorem q1767 : (Jvm.Cond.laysFinal "TreePressModel" "TreePressModel" "blockFrom" "[I") ∈ lw_all := lw_g (lw_at lw_m7 196 rfl) rfl
theorem q1768 : (Jvm.Cond.soleField "TreePressModel" "blockFrom") ∈ lw_all := lw_g (lw_at lw_m7 197 rfl) rfl
theorem q1769 : (Jvm.Cond.laysFinal "TreePressModel" "TreePressModel" "blockTo" "[I") ∈ lw_all := lw_g (lw_at lw_m7 198 rfl) rfl
theorem q1770 : (Jvm.Cond.soleField "TreePressModel" "blockTo") ∈ lw_all := lw_g (lw_at lw_m7 199 rfl) rfl
theorem q1771 : (Jvm.Cond.lays "TreePressModel" "TreePressModel" "blocks" "I") ∈ lw_all := lw_g (lw_at lw_m7 200 rfl) rfl
theorem q1772 : (Jvm.Cond.soleField "TreePressModel" "blocks") ∈ lw_all := lw_g (lw_at lw_m7 201 rfl) rfl
theorem q1773 : (Jvm.Cond.laysFinal "TreePressModel" "TreePressModel" "word" "[B") ∈ lw_all := lw_g (lw_at lw_m7 202 rfl) rfl
theorem q1774 : (Jvm.Cond.soleField "TreePressModel" "word") ∈ lw_all := lw_g (lw_at lw_m7 203 rfl) rfl
theorem q1775 : (Jvm.Cond.laysFinal "TreePressModel" "TreePressModel" "wordText" "[I") ∈ lw_all := lw_g (lw_at lw_m7 204 rfl) rfl
theorem q1776 : (Jvm.Cond.soleField "TreePressModel" "wordText") ∈ lw_all := lw_g (lw_at lw_m7 205 rfl) rfl
theorem q1777 : (Jvm.Cond.lays "TreePressModel" "TreePressModel" "wordSize" "I") ∈ lw_all := lw_g (lw_at lw_m7 206 rfl) rfl
theorem q1778 : (Jvm.Cond.soleField "TreePressModel" "wordSize") ∈ lw_all := lw_g (lw_at lw_m7 207 rfl) rfl
theorem q1779 : (Jvm.Cond.lays "TreePressModel" "TreePressModel" "isOpenLine" "Z") ∈ lw_all := lw_g (lw_at lw_m7 208 rfl) rfl
theorem q1780 : (Jvm.Cond.soleField "TreePressModel" "isOpenLine") ∈ lw_all := lw_g (lw_at lw_m7 209 rfl) rfl
theorem q1781 : (Jvm.Cond.lays "TreePressModel" "TreePressModel" "wide" "I") ∈ lw_all := lw_g (lw_at lw_m7 210 rfl) rfl
theorem q1782 : (Jvm.Cond.soleField "TreePressModel" "wide") ∈ lw_all := lw_g (lw_at lw_m7 211 rfl) rfl
theorem q1783 : (Jvm.Cond.laysFinal "TreePressModel" "TreePressModel" "blockOf" "[I") ∈ lw_all := lw_g (lw_at lw_m7 212 rfl) rfl
theorem q1784 : (Jvm.Cond.soleField "TreePressModel" "blockOf") ∈ lw_all := lw_g (lw_at lw_m7 213 rfl) rfl
theorem q1785 : (Jvm.Cond.superclass "TreePressModel" "java/lang/Object") ∈ lw_all := lw_g (lw_at lw_m7 214 rfl) rfl
theorem q1787 : (Jvm.Cond.instanceMethod ({ cls := "TreePressModel", name := "read", desc := "(I)I" } : Jvm.MethodName)) ∈ lw_all := lw_g (lw_at lw_m7 216 rfl) rfl
theorem q1788 : (Jvm.Cond.selects "TreePressModel" ({ cls := "TreePressModel", name := "read", desc := "(I)I" } : Jvm.MethodName) ({ cls := "TreePressModel", name := "read", desc := "(I)I" } : Jvm.MethodName)) ∈ lw_all := lw_g (lw_at lw_m7 217 rfl) rfl
theorem q1789 : (Jvm.Cond.code ({ cls := "TreePressModel", name := "read", desc := "(I)I" } : Jvm.MethodName) prog_21_method_46_code (3 : Nat) (Option.some Jvm.ClassFile.FieldType.int)) ∈ lw_all := lw_g (lw_at lw_m7 218 rfl) rfl
theorem q1790 : (Jvm.Cond.methodLink "TreePressModel" (256 : Nat) ({ cls := "TreePressModel", name := "in", desc := "(JJJ)Z" } : Jvm.MethodName)) ∈ lw_all := lw_g (lw_at lw_m7 219 rfl) rfl
theorem q1791 : (Jvm.Cond.static ({ cls := "TreePressModel", name := "in", desc := "(JJJ)Z" } : Jvm.MethodName)) ∈ lw_all := lw_g (lw_at lw_m7 220 rfl) rfl
theorem q1792 : (Jvm.Cond.code ({ cls := "TreePressModel", name := "in", desc := "(JJJ)Z" } : Jvm.MethodName) prog_21_method_3_code (6 : Nat) (Option.some Jvm.ClassFile.FieldType.boolean)) ∈ lw_all := lw_g (lw_at lw_m7 221 rfl) rfl
theorem q1793 : (Jvm.Cond.methodLink "TreePressModel" (479 : Nat) ({ cls := "TreePressModel", name := "begin", desc := "(I)V" } : Jvm.MethodName)) ∈ lw_all := lw_g (lw_at lw_m7 222 rfl) rfl
theorem q1794 : (Jvm.Cond.privateMethod ({ cls := "TreePressModel", name := "begin", desc := "(I)V" } : Jvm.MethodName)) ∈ lw_tbl := lw_at lw_m7 223 rfl
theorem q1795 : (Jvm.Cond.instanceMethod ({ cls := "TreePressModel", name := "begin", desc := "(I)V" } : Jvm.MethodName)) ∈ lw_all := lw_g (lw_at lw_m7 224 rfl) rfl
theorem q1796 : (Jvm.Cond.code ({ cls := "TreePressModel", name := "begin", desc := "(I)V" } : Jvm.MethodName) prog_21_method_47_code (3 : Nat) (Option.none : Option Jvm.ClassFile.FieldType)) ∈ lw_all := lw_g (lw_at lw_m7 225 rfl) rfl
theorem q1797 : (Jvm.Cond.methodLink "TreePressModel" (446 : Nat) ({ cls := "TreePressModel", name := "newNode", desc := "(II)I" } : Jvm.MethodName)) ∈ lw_all := lw_g (lw_at lw_m7 226 rfl) rfl
theorem q1798 : (Jvm.Cond.privateMethod ({ cls := "TreePressModel", name := "newNode", desc := "(II)I" } : Jvm.MethodName)) ∈ lw_tbl := lw_at lw_m7 227 rfl
theorem q1799 : (Jvm.Cond.instanceMethod ({ cls := "TreePressModel", name := "newNode", desc := "(II)I" } : Jvm.MethodName)) ∈ lw_all := lw_g (lw_at lw_m7 228 rfl) rfl
theorem q1800 : (Jvm.Cond.code ({ cls := "TreePressModel", name := "newNode", desc := "(II)I" } : Jvm.MethodName) prog_21_method_37_code (4 : Nat) (Option.some Jvm.ClassFile.FieldType.int)) ∈ lw_all := lw_g (lw_at lw_m7 229 rfl) rfl
theorem q1801 : (Jvm.Cond.methodLink "TreePressModel" (289 : Nat) ({ cls := "TreePressModel", name := "isGood", desc := "()Z" } : Jvm.MethodName)) ∈ lw_all := lw_g (lw_at lw_m7 230 rfl) rfl
theorem q1802 : (Jvm.Cond.privateMethod ({ cls := "TreePressModel", name := "isGood", desc := "()Z" } : Jvm.MethodName)) ∈ lw_tbl := lw_at lw_m7 231 rfl
theorem q1803 : (Jvm.Cond.instanceMethod ({ cls := "TreePressModel", name := "isGood", desc := "()Z" } : Jvm.MethodName)) ∈ lw_all := lw_g (lw_at lw_m7 232 rfl) rfl
theorem q1804 : (Jvm.Cond.code ({ cls := "TreePressModel", name := "isGood", desc := "()Z" } : Jvm.MethodName) prog_21_method_6_code (1 : Nat) (Option.some Jvm.ClassFile.FieldType.boolean)) ∈ lw_all := lw_g (lw_at lw_m7 233 rfl) rfl
theorem q1805 : (Jvm.Cond.methodLink "TreePressModel" (293 : Nat) ({ cls := "TreePressModel", name := "fail", desc := "(II)V" } : Jvm.MethodName)) ∈ lw_all := lw_g (lw_at lw_m7 234 rfl) rfl
theorem q1806 : (Jvm.Cond.privateMethod ({ cls := "TreePressModel", name := "fail", desc := "(II)V" } : Jvm.MethodName)) ∈ lw_tbl := lw_at lw_m7 235 rfl
theorem q1807 : (Jvm.Cond.instanceMethod ({ cls := "TreePressModel", name := "fail", desc := "(II)V" } : Jvm.MethodName)) ∈ lw_all := lw_g (lw_at lw_m7 236 rfl) rfl
theorem q1808 : (Jvm.Cond.code ({ cls := "TreePressModel", name := "fail", desc := "(II)V" } : Jvm.MethodName) prog_21_method_4_code (3 : Nat) (Option.none : Option Jvm.ClassFile.FieldType)) ∈ lw_all := lw_g (lw_at lw_m7 237 rfl) rfl
theorem q1809 : (Jvm.Cond.methodLink "TreePressModel" (485 : Nat) ({ cls := "TreePressModel", name := "misc", desc := "()V" } : Jvm.MethodName)) ∈ lw_all := lw_g (lw_at lw_m7 238 rfl) rfl
theorem q1810 : (Jvm.Cond.privateMethod ({ cls := "TreePressModel", name := "misc", desc := "()V" } : Jvm.MethodName)) ∈ lw_tbl := lw_at lw_m7 239 rfl
theorem q1811 : (Jvm.Cond.instanceMethod ({ cls := "TreePressModel", name := "misc", desc := "()V" } : Jvm.MethodName)) ∈ lw_all := lw_g (lw_at lw_m8 0 rfl) rfl
theorem q1812 : (Jvm.Cond.code ({ cls := "TreePressModel", name := "misc", desc := "()V" } : Jvm.MethodName) prog_21_method_22_code (1 : Nat) (Option.none : Option Jvm.ClassFile.FieldType)) ∈ lw_all := lw_g (lw_at lw_m8 1 rfl) rfl
theorem q1813 : (Jvm.Cond.methodLink "TreePressModel" (300 : Nat) ({ cls := "TreePressModel", name := "maybeS", desc := "()V" } : Jvm.MethodName)) ∈ lw_all := lw_g (lw_at lw_m8 2 rfl) rfl
theorem q1814 : (Jvm.Cond.privateMethod ({ cls := "TreePressModel", name := "maybeS", desc := "()V" } : Jvm.MethodName)) ∈ lw_tbl := lw_at lw_m8 3 rfl
theorem q1815 : (Jvm.Cond.instanceMethod ({ cls := "TreePressModel", name := "maybeS", desc := "()V" } : Jvm.MethodName)) ∈ lw_all := lw_g (lw_at lw_m8 4 rfl) rfl
theorem q1816 : (Jvm.Cond.code ({ cls := "TreePressModel", name := "maybeS", desc := "()V" } : Jvm.MethodName) prog_21_method_14_code (1 : Nat) (Option.none : Option Jvm.ClassFile.FieldType)) ∈ lw_all := lw_g (lw_at lw_m8 5 rfl) rfl
theorem q1817 : (Jvm.Cond.methodLink "TreePressModel" (279 : Nat) ({ cls := "TreePressModel", name := "octet", desc := "(I)I" } : Jvm.MethodName)) ∈ lw_all := lw_g (lw_at lw_m8 6 rfl) rfl
theorem q1818 : (Jvm.Cond.privateMethod ({ cls := "TreePressModel", name := "octet", desc := "(I)I" } : Jvm.MethodName)) ∈ lw_tbl := lw_at lw_m8 7 rfl
theorem q1819 : (Jvm.Cond.instanceMethod ({ cls := "TreePressModel", name := "octet", desc := "(I)I" } : Jvm.MethodName)) ∈ lw_all := lw_g (lw_at lw_m8 8 rfl) rfl
theorem q1820 : (Jvm.Cond.code ({ cls := "TreePressModel", name := "octet", desc := "(I)I" } : Jvm.MethodName) prog_21_method_5_code (2 : Nat) (Option.some Jvm.ClassFile.FieldType.int)) ∈ lw_all := lw_g (lw_at lw_m8 9 rfl) rfl
theorem q1821 : (Jvm.Cond.methodLink "TreePressModel" (297 : Nat) ({ cls := "TreePressModel", name := "isS", desc := "(I)Z" } : Jvm.MethodName)) ∈ lw_all := lw_g (lw_at lw_m8 10 rfl) rfl
theorem q1822 : (Jvm.Cond.static ({ cls := "TreePressModel", name := "isS", desc := "(I)Z" } : Jvm.MethodName)) ∈ lw_all := lw_g (lw_at lw_m8 11 rfl) rfl
theorem q1823 : (Jvm.Cond.code ({ cls := "TreePressModel", name := "isS", desc := "(I)Z" } : Jvm.MethodName) prog_21_method_7_code (1 : Nat) (Option.some Jvm.ClassFile.FieldType.boolean)) ∈ lw_all := lw_g (lw_at lw_m8 12 rfl) rfl
theorem q1824 : (Jvm.Cond.constantLong "TreePressModel" (343 : Nat) (1008807213 : Int64)) ∈ lw_all := lw_g (lw_at lw_m8 13 rfl) rfl
theorem q1825 : (Jvm.Cond.methodLink "TreePressModel" (285 : Nat) ({ cls := "TreePressModel", name := "stands", desc := "(JI)Z" } : Jvm.MethodName)) ∈ lw_all := lw_g (lw_at lw_m8 14 rfl) rfl
theorem q1826 : (Jvm.Cond.privateMethod ({ cls := "TreePressModel", name := "stands", desc := "(JI)Z" } : Jvm.MethodName)) ∈ lw_tbl := lw_at lw_m8 15 rfl
theorem q1827 : (Jvm.Cond.instanceMethod ({ cls := "TreePressModel", name := "stands", desc := "(JI)Z" } : Jvm.MethodName)) ∈ lw_all := lw_g (lw_at lw_m8 16 rfl) rfl
theorem q1828 : (Jvm.Cond.code ({ cls := "TreePressModel", name := "stands", desc := "(JI)Z" } : Jvm.MethodName) prog_21_method_11_code (6 : Nat) (Option.some Jvm.ClassFile.FieldType.boolean)) ∈ lw_all := lw_g (lw_at lw_m8 17 rfl) rfl
theorem q1829 : (Jvm.Cond.constantLong "TreePressModel" (283 : Nat) (255 : Int64)) ∈ lw_all := lw_g (lw_at lw_m8 18 rfl) rfl
theorem q1830 : (Jvm.Cond.methodLink "TreePressModel" (345 : Nat) ({ cls := "TreePressModel", name := "comment", desc := "()V" } : Jvm.MethodName)) ∈ lw_all := lw_g (lw_at lw_m8 19 rfl) rfl
theorem q1831 : (Jvm.Cond.privateMethod ({ cls := "TreePressModel", name := "comment", desc := "()V" } : Jvm.MethodName)) ∈ lw_tbl := lw_at lw_m8 20 rfl
theorem q1832 : (Jvm.Cond.instanceMethod ({ cls := "TreePressModel", name := "comment", desc := "()V" } : Jvm.MethodName)) ∈ lw_all := lw_g (lw_at lw_m8 21 rfl) rfl
theorem q1833 : (Jvm.Cond.code ({ cls := "TreePressModel", name := "comment", desc := "()V" } : Jvm.MethodName) prog_21_method_21_code (2 : Nat) (Option.none : Option Jvm.ClassFile.FieldType)) ∈ lw_all := lw_g (lw_at lw_m8 22 rfl) rfl
theorem q1834 : (Jvm.Cond.constantLong "TreePressModel" (338 : Nat) (11565 : Int64)) ∈ lw_all := lw_g (lw_at lw_m8 23 rfl) rfl
theorem q1835 : (Jvm.Cond.methodLink "TreePressModel" (313 : Nat) ({ cls := "TreePressModel", name := "isChar", desc := "(I)Z" } : Jvm.MethodName)) ∈ lw_all := lw_g (lw_at lw_m8 24 rfl) rfl
theorem q1836 : (Jvm.Cond.static ({ cls := "TreePressModel", name := "isChar", desc := "(I)Z" } : Jvm.MethodName)) ∈ lw_all := lw_g (lw_at lw_m8 25 rfl) rfl
theorem q1837 : (Jvm.Cond.code ({ cls := "TreePressModel", name := "isChar", desc := "(I)Z" } : Jvm.MethodName) prog_21_method_8_code (1 : Nat) (Option.some Jvm.ClassFile.FieldType.boolean)) ∈ lw_all := lw_g (lw_at lw_m8 26 rfl) rfl
theorem q1838 : (Jvm.Cond.constantLong "TreePressModel" (252 : Nat) (32 : Int64)) ∈ lw_all := lw_g (lw_at lw_m8 27 rfl) rfl
theorem q1839 : (Jvm.Cond.constantLong "TreePressModel" (254 : Nat) (126 : Int64)) ∈ lw_all := lw_g (lw_at lw_m8 28 rfl) rfl
theorem q1840 : (Jvm.Cond.methodLink "TreePressModel" (340 : Nat) ({ cls := "TreePressModel", name := "passes", desc := "(I)Z" } : Jvm.MethodName)) ∈ lw_all := lw_g (lw_at lw_m8 29 rfl) rfl
theorem q1841 : (Jvm.Cond.privateMethod ({ cls := "TreePressModel", name := "passes", desc := "(I)Z" } : Jvm.MethodName)) ∈ lw_tbl := lw_at lw_m8 30 rfl
theorem q1842 : (Jvm.Cond.instanceMethod ({ cls := "TreePressModel", name := "passes", desc := "(I)Z" } : Jvm.MethodName)) ∈ lw_all := lw_g (lw_at lw_m8 31 rfl) rfl
theorem q1843 : (Jvm.Cond.code ({ cls := "TreePressModel", name := "passes", desc := "(I)Z" } : Jvm.MethodName) prog_21_method_13_code (2 : Nat) (Option.some Jvm.ClassFile.FieldType.boolean)) ∈ lw_all := lw_g (lw_at lw_m8 32 rfl) rfl
theorem q1844 : (Jvm.Cond.constantLong "TreePressModel" (488 : Nat) (4332819423729834320 : Int64)) ∈ lw_all := lw_g (lw_at lw_m8 33 rfl) rfl
theorem q1845 : (Jvm.Cond.constantLong "TreePressModel" (490 : Nat) (69 : Int64)) ∈ lw_all := lw_g (lw_at lw_m8 34 rfl) rfl
theorem q1846 : (Jvm.Cond.methodLink "TreePressModel" (358 : Nat) ({ cls := "TreePressModel", name := "stands2", desc := "(JJI)Z" } : Jvm.MethodName)) ∈ lw_all := lw_g (lw_at lw_m8 35 rfl) rfl
theorem q1847 : (Jvm.Cond.privateMethod ({ cls := "TreePressModel", name := "stands2", desc := "(JJI)Z" } : Jvm.MethodName)) ∈ lw_tbl := lw_at lw_m8 36 rfl
theorem q1848 : (Jvm.Cond.instanceMethod ({ cls := "TreePressModel", name := "stands2", desc := "(JJI)Z" } : Jvm.MethodName)) ∈ lw_all := lw_g (lw_at lw_m8 37 rfl) rfl
theorem q1849 : (Jvm.Cond.code ({ cls := "TreePressModel", name := "stands2", desc := "(JJI)Z" } : Jvm.MethodName) prog_21_method_12_code (7 : Nat) (Option.some Jvm.ClassFile.FieldType.boolean)) ∈ lw_all := lw_g (lw_at lw_m8 38 rfl) rfl
theorem q1850 : (Jvm.Cond.methodLink "TreePressModel" (492 : Nat) ({ cls := "TreePressModel", name := "doctype", desc := "()V" } : Jvm.MethodName)) ∈ lw_all := lw_g (lw_at lw_m8 39 rfl) rfl
theorem q1851 : (Jvm.Cond.privateMethod ({ cls := "TreePressModel", name := "doctype", desc := "()V" } : Jvm.MethodName)) ∈ lw_tbl := lw_at lw_m8 40 rfl
theorem q1852 : (Jvm.Cond.instanceMethod ({ cls := "TreePressModel", name := "doctype", desc := "()V" } : Jvm.MethodName)) ∈ lw_all := lw_g (lw_at lw_m8 41 rfl) rfl
theorem q1853 : (Jvm.Cond.code ({ cls := "TreePressModel", name := "doctype", desc := "()V" } : Jvm.MethodName) prog_21_method_23_code (3 : Nat) (Option.none : Option Jvm.ClassFile.FieldType)) ∈ lw_all := lw_g (lw_at lw_m8 42 rfl) rfl
theorem q1854 : (Jvm.Cond.methodLink "TreePressModel" (348 : Nat) ({ cls := "TreePressModel", name := "mustS", desc := "()V" } : Jvm.MethodName)) ∈ lw_all := lw_g (lw_at lw_m8 43 rfl) rfl
theorem q1855 : (Jvm.Cond.privateMethod ({ cls := "TreePressModel", name := "mustS", desc := "()V" } : Jvm.MethodName)) ∈ lw_tbl := lw_at lw_m8 44 rfl
theorem q1856 : (Jvm.Cond.instanceMethod ({ cls := "TreePressModel", name := "mustS", desc := "()V" } : Jvm.MethodName)) ∈ lw_all := lw_g (lw_at lw_m8 45 rfl) rfl
theorem q1857 : (Jvm.Cond.code ({ cls := "TreePressModel", name := "mustS", desc := "()V" } : Jvm.MethodName) prog_21_method_15_code (1 : Nat) (Option.none : Option Jvm.ClassFile.FieldType)) ∈ lw_all := lw_g (lw_at lw_m8 46 rfl) rfl
theorem q1858 : (Jvm.Cond.methodLink "TreePressModel" (351 : Nat) ({ cls := "TreePressModel", name := "takeName", desc := "()I" } : Jvm.MethodName)) ∈ lw_all := lw_g (lw_at lw_m8 47 rfl) rfl
theorem q1859 : (Jvm.Cond.privateMethod ({ cls := "TreePressModel", name := "takeName", desc := "()I" } : Jvm.MethodName)) ∈ lw_tbl := lw_at lw_m8 48 rfl
theorem q1860 : (Jvm.Cond.instanceMethod ({ cls := "TreePressModel", name := "takeName", desc := "()I" } : Jvm.MethodName)) ∈ lw_all := lw_g (lw_at lw_m8 49 rfl) rfl
theorem q1861 : (Jvm.Cond.code ({ cls := "TreePressModel", name := "takeName", desc := "()I" } : Jvm.MethodName) prog_21_method_16_code (2 : Nat) (Option.some Jvm.ClassFile.FieldType.int)) ∈ lw_all := lw_g (lw_at lw_m8 50 rfl) rfl
theorem q1862 : (Jvm.Cond.methodLink "TreePressModel" (268 : Nat) ({ cls := "TreePressModel", name := "isFirst", desc := "(I)Z" } : Jvm.MethodName)) ∈ lw_all := lw_g (lw_at lw_m8 51 rfl) rfl
theorem q1863 : (Jvm.Cond.static ({ cls := "TreePressModel", name := "isFirst", desc := "(I)Z" } : Jvm.MethodName)) ∈ lw_all := lw_g (lw_at lw_m8 52 rfl) rfl
theorem q1864 : (Jvm.Cond.code ({ cls := "TreePressModel", name := "isFirst", desc := "(I)Z" } : Jvm.MethodName) prog_21_method_9_code (1 : Nat) (Option.some Jvm.ClassFile.FieldType.boolean)) ∈ lw_all := lw_g (lw_at lw_m8 53 rfl) rfl
theorem q1865 : (Jvm.Cond.constantLong "TreePressModel" (260 : Nat) (97 : Int64)) ∈ lw_all := lw_g (lw_at lw_m8 54 rfl) rfl
theorem q1866 : (Jvm.Cond.constantLong "TreePressModel" (262 : Nat) (122 : Int64)) ∈ lw_all := lw_g (lw_at lw_m8 55 rfl) rfl
theorem q1867 : (Jvm.Cond.constantLong "TreePressModel" (264 : Nat) (65 : Int64)) ∈ lw_all := lw_g (lw_at lw_m8 56 rfl) rfl
theorem q1868 : (Jvm.Cond.constantLong "TreePressModel" (266 : Nat) (90 : Int64)) ∈ lw_all := lw_g (lw_at lw_m8 57 rfl) rfl
theorem q1869 : (Jvm.Cond.methodLink "TreePressModel" (303 : Nat) ({ cls := "TreePressModel", name := "isNext", desc := "(I)Z" } : Jvm.MethodName)) ∈ lw_all := lw_g (lw_at lw_m8 58 rfl) rfl
theorem q1870 : (Jvm.Cond.static ({ cls := "TreePressModel", name := "isNext", desc := "(I)Z" } : Jvm.MethodName)) ∈ lw_all := lw_g (lw_at lw_m8 59 rfl) rfl
theorem q1871 : (Jvm.Cond.code ({ cls := "TreePressModel", name := "isNext", desc := "(I)Z" } : Jvm.MethodName) prog_21_method_10_code (1 : Nat) (Option.some Jvm.ClassFile.FieldType.boolean)) ∈ lw_all := lw_g (lw_at lw_m8 60 rfl) rfl
theorem q1872 : (Jvm.Cond.constantLong "TreePressModel" (272 : Nat) (48 : Int64)) ∈ lw_all := lw_g (lw_at lw_m8 61 rfl) rfl
theorem q1873 : (Jvm.Cond.constantLong "TreePressModel" (274 : Nat) (57 : Int64)) ∈ lw_all := lw_g (lw_at lw_m8 62 rfl) rfl
theorem q1874 : (Jvm.Cond.constantLong "TreePressModel" (354 : Nat) (4332820510389650766 : Int64)) ∈ lw_all := lw_g (lw_at lw_m8 63 rfl) rfl
theorem q1875 : (Jvm.Cond.constantLong "TreePressModel" (356 : Nat) (84 : Int64)) ∈ lw_all := lw_g (lw_at lw_m8 64 rfl) rfl
theorem q1876 : (Jvm.Cond.methodLink "TreePressModel" (362 : Nat) ({ cls := "TreePressModel", name := "declaration", desc := "()V" } : Jvm.MethodName)) ∈ lw_all := lw_g (lw_at lw_m8 65 rfl) rfl
theorem q1877 : (Jvm.Cond.privateMethod ({ cls := "TreePressModel", name := "declaration", desc := "()V" } : Jvm.MethodName)) ∈ lw_tbl := lw_at lw_m8 66 rfl
theorem q1878 : (Jvm.Cond.instanceMethod ({ cls := "TreePressModel", name := "declaration", desc := "()V" } : Jvm.MethodName)) ∈ lw_all := lw_g (lw_at lw_m8 67 rfl) rfl
theorem q1879 : (Jvm.Cond.code ({ cls := "TreePressModel", name := "declaration", desc := "()V" } : Jvm.MethodName) prog_21_method_24_code (3 : Nat) (Option.none : Option Jvm.ClassFile.FieldType)) ∈ lw_all := lw_g (lw_at lw_m8 68 rfl) rfl
theorem q1880 : (Jvm.Cond.constantLong "TreePressModel" (370 : Nat) (297649853529 : Int64)) ∈ lw_all := lw_g (lw_at lw_m8 69 rfl) rfl
theorem q1881 : (Jvm.Cond.constantLong "TreePressModel" (372 : Nat) (4279897 : Int64)) ∈ lw_all := lw_g (lw_at lw_m8 70 rfl) rfl
theorem q1882 : (Jvm.Cond.constantLong "TreePressModel" (374 : Nat) (9939874023035969 : Int64)) ∈ lw_all := lw_g (lw_at lw_m8 71 rfl) rfl
theorem q1883 : (Jvm.Cond.methodLink "TreePressModel" (376 : Nat) ({ cls := "TreePressModel", name := "mixed", desc := "(I)V" } : Jvm.MethodName)) ∈ lw_all := lw_g (lw_at lw_m8 72 rfl) rfl
theorem q1884 : (Jvm.Cond.privateMethod ({ cls := "TreePressModel", name := "mixed", desc := "(I)V" } : Jvm.MethodName)) ∈ lw_tbl := lw_at lw_m8 73 rfl
theorem q1885 : (Jvm.Cond.instanceMethod ({ cls := "TreePressModel", name := "mixed", desc := "(I)V" } : Jvm.MethodName)) ∈ lw_all := lw_g (lw_at lw_m8 74 rfl) rfl
theorem q1886 : (Jvm.Cond.code ({ cls := "TreePressModel", name := "mixed", desc := "(I)V" } : Jvm.MethodName) prog_21_method_26_code (3 : Nat) (Option.none : Option Jvm.ClassFile.FieldType)) ∈ lw_all := lw_g (lw_at lw_m8 75 rfl) rfl
theorem q1887 : (Jvm.Cond.methodLink "TreePressModel" (383 : Nat) ({ cls := "TreePressModel", name := "specName", desc := "(I)I" } : Jvm.MethodName)) ∈ lw_all := lw_g (lw_at lw_m8 76 rfl) rfl
theorem q1888 : (Jvm.Cond.privateMethod ({ cls := "TreePressModel", name := "specName", desc := "(I)I" } : Jvm.MethodName)) ∈ lw_tbl := lw_at lw_m8 77 rfl
theorem q1889 : (Jvm.Cond.instanceMethod ({ cls := "TreePressModel", name := "specName", desc := "(I)I" } : Jvm.MethodName)) ∈ lw_all := lw_g (lw_at lw_m8 78 rfl) rfl
theorem q1890 : (Jvm.Cond.code ({ cls := "TreePressModel", name := "specName", desc := "(I)I" } : Jvm.MethodName) prog_21_method_25_code (4 : Nat) (Option.some Jvm.ClassFile.FieldType.int)) ∈ lw_all := lw_g (lw_at lw_m8 79 rfl) rfl
theorem q1891 : (Jvm.Cond.methodLink "TreePressModel" (380 : Nat) ({ cls := "TreePressModel", name := "group", desc := "(I)V" } : Jvm.MethodName)) ∈ lw_all := lw_g (lw_at lw_m8 80 rfl) rfl
theorem q1892 : (Jvm.Cond.privateMethod ({ cls := "TreePressModel", name := "group", desc := "(I)V" } : Jvm.MethodName)) ∈ lw_tbl := lw_at lw_m8 81 rfl
theorem q1893 : (Jvm.Cond.instanceMethod ({ cls := "TreePressModel", name := "group", desc := "(I)V" } : Jvm.MethodName)) ∈ lw_all := lw_g (lw_at lw_m8 82 rfl) rfl
theorem q1894 : (Jvm.Cond.code ({ cls := "TreePressModel", name := "group", desc := "(I)V" } : Jvm.MethodName) prog_21_method_31_code (5 : Nat) (Option.none : Option Jvm.ClassFile.FieldType)) ∈ lw_all := lw_g (lw_at lw_m8 83 rfl) rfl
theorem q1895 : (Jvm.Cond.methodLink "TreePressModel" (400 : Nat) ({ cls := "TreePressModel", name := "openGroup", desc := "(I)V" } : Jvm.MethodName)) ∈ lw_all := lw_g (lw_at lw_m8 84 rfl) rfl
theorem q1896 : (Jvm.Cond.privateMethod ({ cls := "TreePressModel", name := "openGroup", desc := "(I)V" } : Jvm.MethodName)) ∈ lw_tbl := lw_at lw_m8 85 rfl
theorem q1897 : (Jvm.Cond.instanceMethod ({ cls := "TreePressModel", name := "openGroup", desc := "(I)V" } : Jvm.MethodName)) ∈ lw_all := lw_g (lw_at lw_m8 86 rfl) rfl
theorem q1898 : (Jvm.Cond.code ({ cls := "TreePressModel", name := "openGroup", desc := "(I)V" } : Jvm.MethodName) prog_21_method_30_code (2 : Nat) (Option.none : Option Jvm.ClassFile.FieldType)) ∈ lw_all := lw_g (lw_at lw_m8 87 rfl) rfl
theorem q1899 : (Jvm.Cond.methodLink "TreePressModel" (403 : Nat) ({ cls := "TreePressModel", name := "mark", desc := "(I)V" } : Jvm.MethodName)) ∈ lw_all := lw_g (lw_at lw_m8 88 rfl) rfl
theorem q1900 : (Jvm.Cond.privateMethod ({ cls := "TreePressModel", name := "mark", desc := "(I)V" } : Jvm.MethodName)) ∈ lw_tbl := lw_at lw_m8 89 rfl
theorem q1901 : (Jvm.Cond.instanceMethod ({ cls := "TreePressModel", name := "mark", desc := "(I)V" } : Jvm.MethodName)) ∈ lw_all := lw_g (lw_at lw_m8 90 rfl) rfl
theorem q1902 : (Jvm.Cond.code ({ cls := "TreePressModel", name := "mark", desc := "(I)V" } : Jvm.MethodName) prog_21_method_28_code (3 : Nat) (Option.none : Option Jvm.ClassFile.FieldType)) ∈ lw_all := lw_g (lw_at lw_m8 91 rfl) rfl
theorem q1903 : (Jvm.Cond.methodLink "TreePressModel" (393 : Nat) ({ cls := "TreePressModel", name := "joinFollows", desc := "(IJJ)V" } : Jvm.MethodName)) ∈ lw_all := lw_g (lw_at lw_m8 92 rfl) rfl
theorem q1904 : (Jvm.Cond.privateMethod ({ cls := "TreePressModel", name := "joinFollows", desc := "(IJJ)V" } : Jvm.MethodName)) ∈ lw_tbl := lw_at lw_m8 93 rfl
theorem q1905 : (Jvm.Cond.instanceMethod ({ cls := "TreePressModel", name := "joinFollows", desc := "(IJJ)V" } : Jvm.MethodName)) ∈ lw_all := lw_g (lw_at lw_m8 94 rfl) rfl
theorem q1906 : (Jvm.Cond.code ({ cls := "TreePressModel", name := "joinFollows", desc := "(IJJ)V" } : Jvm.MethodName) prog_21_method_27_code (7 : Nat) (Option.none : Option Jvm.ClassFile.FieldType)) ∈ lw_all := lw_g (lw_at lw_m8 95 rfl) rfl
theorem q1907 : (Jvm.Cond.methodLink "TreePressModel" (406 : Nat) ({ cls := "TreePressModel", name := "comes", desc := "(II)V" } : Jvm.MethodName)) ∈ lw_all := lw_g (lw_at lw_m8 96 rfl) rfl
theorem q1908 : (Jvm.Cond.privateMethod ({ cls := "TreePressModel", name := "comes", desc := "(II)V" } : Jvm.MethodName)) ∈ lw_tbl := lw_at lw_m8 97 rfl
theorem q1909 : (Jvm.Cond.instanceMethod ({ cls := "TreePressModel", name := "comes", desc := "(II)V" } : Jvm.MethodName)) ∈ lw_all := lw_g (lw_at lw_m8 98 rfl) rfl
theorem q1910 : (Jvm.Cond.code ({ cls := "TreePressModel", name := "comes", desc := "(II)V" } : Jvm.MethodName) prog_21_method_29_code (3 : Nat) (Option.none : Option Jvm.ClassFile.FieldType)) ∈ lw_all := lw_g (lw_at lw_m8 99 rfl) rfl
theorem q1911 : (Jvm.Cond.constantLong "TreePressModel" (365 : Nat) (4332816146954471763 : Int64)) ∈ lw_all := lw_g (lw_at lw_m8 100 rfl) rfl
theorem q1912 : (Jvm.Cond.methodLink "TreePressModel" (367 : Nat) ({ cls := "TreePressModel", name := "attributeList", desc := "()V" } : Jvm.MethodName)) ∈ lw_all := lw_g (lw_at lw_m8 101 rfl) rfl
theorem q1913 : (Jvm.Cond.privateMethod ({ cls := "TreePressModel", name := "attributeList", desc := "()V" } : Jvm.MethodName)) ∈ lw_tbl := lw_at lw_m8 102 rfl
theorem q1914 : (Jvm.Cond.instanceMethod ({ cls := "TreePressModel", name := "attributeList", desc := "()V" } : Jvm.MethodName)) ∈ lw_all := lw_g (lw_at lw_m8 103 rfl) rfl
theorem q1915 : (Jvm.Cond.code ({ cls := "TreePressModel", name := "attributeList", desc := "()V" } : Jvm.MethodName) prog_21_method_33_code (5 : Nat) (Option.none : Option Jvm.ClassFile.FieldType)) ∈ lw_all := lw_g (lw_at lw_m8 104 rfl) rfl
theorem q1916 : (Jvm.Cond.methodLink "TreePressModel" (416 : Nat) ({ cls := "TreePressModel", name := "rule", desc := "(II)V" } : Jvm.MethodName)) ∈ lw_all := lw_g (lw_at lw_m8 105 rfl) rfl
theorem q1917 : (Jvm.Cond.privateMethod ({ cls := "TreePressModel", name := "rule", desc := "(II)V" } : Jvm.MethodName)) ∈ lw_tbl := lw_at lw_m8 106 rfl
theorem q1918 : (Jvm.Cond.instanceMethod ({ cls := "TreePressModel", name := "rule", desc := "(II)V" } : Jvm.MethodName)) ∈ lw_all := lw_g (lw_at lw_m8 107 rfl) rfl
theorem q1919 : (Jvm.Cond.code ({ cls := "TreePressModel", name := "rule", desc := "(II)V" } : Jvm.MethodName) prog_21_method_34_code (7 : Nat) (Option.none : Option Jvm.ClassFile.FieldType)) ∈ lw_all := lw_g (lw_at lw_m8 108 rfl) rfl
theorem q1920 : (Jvm.Cond.methodLink "TreePressModel" (419 : Nat) ({ cls := "TreePressModel", name := "hasRule", desc := "(IIII)Z" } : Jvm.MethodName)) ∈ lw_all := lw_g (lw_at lw_m8 109 rfl) rfl
theorem q1921 : (Jvm.Cond.privateMethod ({ cls := "TreePressModel", name := "hasRule", desc := "(IIII)Z" } : Jvm.MethodName)) ∈ lw_tbl := lw_at lw_m8 110 rfl
theorem q1922 : (Jvm.Cond.instanceMethod ({ cls := "TreePressModel", name := "hasRule", desc := "(IIII)Z" } : Jvm.MethodName)) ∈ lw_all := lw_g (lw_at lw_m8 111 rfl) rfl
theorem q1923 : (Jvm.Cond.code ({ cls := "TreePressModel", name := "hasRule", desc := "(IIII)Z" } : Jvm.MethodName) prog_21_method_32_code (7 : Nat) (Option.some Jvm.ClassFile.FieldType.boolean)) ∈ lw_all := lw_g (lw_at lw_m8 112 rfl) rfl
theorem q1924 : (Jvm.Cond.methodLink "TreePressModel" (412 : Nat) ({ cls := "TreePressModel", name := "isSame", desc := "(IIII)Z" } : Jvm.MethodName)) ∈ lw_all := lw_g (lw_at lw_m8 113 rfl) rfl
theorem q1925 : (Jvm.Cond.privateMethod ({ cls := "TreePressModel", name := "isSame", desc := "(IIII)Z" } : Jvm.MethodName)) ∈ lw_tbl := lw_at lw_m8 114 rfl
theorem q1926 : (Jvm.Cond.instanceMethod ({ cls := "TreePressModel", name := "isSame", desc := "(IIII)Z" } : Jvm.MethodName)) ∈ lw_all := lw_g (lw_at lw_m8 115 rfl) rfl
theorem q1927 : (Jvm.Cond.code ({ cls := "TreePressModel", name := "isSame", desc := "(IIII)Z" } : Jvm.MethodName) prog_21_method_17_code (7 : Nat) (Option.some Jvm.ClassFile.FieldType.boolean)) ∈ lw_all := lw_g (lw_at lw_m8 116 rfl) rfl
theorem q1928 : (Jvm.Cond.constantLong "TreePressModel" (422 : Nat) (288907940929 : Int64)) ∈ lw_all := lw_g (lw_at lw_m8 117 rfl) rfl
theorem q1929 : (Jvm.Cond.constantLong "TreePressModel" (424 : Nat) (18756 : Int64)) ∈ lw_all := lw_g (lw_at lw_m8 118 rfl) rfl
theorem q1930 : (Jvm.Cond.methodLink "TreePressModel" (426 : Nat) ({ cls := "TreePressModel", name := "tokens", desc := "(I)V" } : Jvm.MethodName)) ∈ lw_all := lw_g (lw_at lw_m8 119 rfl) rfl
theorem q1931 : (Jvm.Cond.privateMethod ({ cls := "TreePressModel", name := "tokens", desc := "(I)V" } : Jvm.MethodName)) ∈ lw_tbl := lw_at lw_m8 120 rfl
theorem q1932 : (Jvm.Cond.instanceMethod ({ cls := "TreePressModel", name := "tokens", desc := "(I)V" } : Jvm.MethodName)) ∈ lw_all := lw_g (lw_at lw_m8 121 rfl) rfl
theorem q1933 : (Jvm.Cond.code ({ cls := "TreePressModel", name := "tokens", desc := "(I)V" } : Jvm.MethodName) prog_21_method_35_code (5 : Nat) (Option.none : Option Jvm.ClassFile.FieldType)) ∈ lw_all := lw_g (lw_at lw_m8 122 rfl) rfl
theorem q1934 : (Jvm.Cond.methodLink "TreePressModel" (429 : Nat) ({ cls := "TreePressModel", name := "defaults", desc := "(I)V" } : Jvm.MethodName)) ∈ lw_all := lw_g (lw_at lw_m8 123 rfl) rfl
theorem q1935 : (Jvm.Cond.privateMethod ({ cls := "TreePressModel", name := "defaults", desc := "(I)V" } : Jvm.MethodName)) ∈ lw_tbl := lw_at lw_m8 124 rfl
theorem q1936 : (Jvm.Cond.instanceMethod ({ cls := "TreePressModel", name := "defaults", desc := "(I)V" } : Jvm.MethodName)) ∈ lw_all := lw_g (lw_at lw_m8 125 rfl) rfl
theorem q1937 : (Jvm.Cond.code ({ cls := "TreePressModel", name := "defaults", desc := "(I)V" } : Jvm.MethodName) prog_21_method_36_code (2 : Nat) (Option.none : Option Jvm.ClassFile.FieldType)) ∈ lw_all := lw_g (lw_at lw_m8 126 rfl) rfl
theorem q1938 : (Jvm.Cond.constantLong "TreePressModel" (432 : Nat) (2545172955043287621 : Int64)) ∈ lw_all := lw_g (lw_at lw_m8 127 rfl) rfl
theorem q1939 : (Jvm.Cond.constantLong "TreePressModel" (434 : Nat) (68 : Int64)) ∈ lw_all := lw_g (lw_at lw_m8 128 rfl) rfl
theorem q1940 : (Jvm.Cond.constantLong "TreePressModel" (436 : Nat) (2542648471899948356 : Int64)) ∈ lw_all := lw_g (lw_at lw_m8 129 rfl) rfl
theorem q1941 : (Jvm.Cond.constantLong "TreePressModel" (438 : Nat) (38784785204548 : Int64)) ∈ lw_all := lw_g (lw_at lw_m8 130 rfl) rfl
theorem q1942 : (Jvm.Cond.methodLink "TreePressModel" (440 : Nat) ({ cls := "TreePressModel", name := "value", desc := "()I" } : Jvm.MethodName)) ∈ lw_all := lw_g (lw_at lw_m8 131 rfl) rfl
theorem q1943 : (Jvm.Cond.privateMethod ({ cls := "TreePressModel", name := "value", desc := "()I" } : Jvm.MethodName)) ∈ lw_tbl := lw_at lw_m8 132 rfl
theorem q1944 : (Jvm.Cond.instanceMethod ({ cls := "TreePressModel", name := "value", desc := "()I" } : Jvm.MethodName)) ∈ lw_all := lw_g (lw_at lw_m8 133 rfl) rfl
theorem q1945 : (Jvm.Cond.code ({ cls := "TreePressModel", name := "value", desc := "()I" } : Jvm.MethodName) prog_21_method_20_code (5 : Nat) (Option.some Jvm.ClassFile.FieldType.int)) ∈ lw_all := lw_g (lw_at lw_m8 134 rfl) rfl
theorem q1946 : (Jvm.Cond.methodLink "TreePressModel" (331 : Nat) ({ cls := "TreePressModel", name := "takePiece", desc := "()I" } : Jvm.MethodName)) ∈ lw_all := lw_g (lw_at lw_m8 135 rfl) rfl
theorem q1947 : (Jvm.Cond.privateMethod ({ cls := "TreePressModel", name := "takePiece", desc := "()I" } : Jvm.MethodName)) ∈ lw_tbl := lw_at lw_m8 136 rfl
theorem q1948 : (Jvm.Cond.instanceMethod ({ cls := "TreePressModel", name := "takePiece", desc := "()I" } : Jvm.MethodName)) ∈ lw_all := lw_g (lw_at lw_m8 137 rfl) rfl
theorem q1949 : (Jvm.Cond.code ({ cls := "TreePressModel", name := "takePiece", desc := "()I" } : Jvm.MethodName) prog_21_method_18_code (5 : Nat) (Option.some Jvm.ClassFile.FieldType.int)) ∈ lw_all := lw_g (lw_at lw_m8 138 rfl) rfl
theorem q1950 : (Jvm.Cond.constantLong "TreePressModel" (316 : Nat) (7107643 : Int64)) ∈ lw_all := lw_g (lw_at lw_m8 139 rfl) rfl
theorem q1951 : (Jvm.Cond.constantLong "TreePressModel" (318 : Nat) (6779963 : Int64)) ∈ lw_all := lw_g (lw_at lw_m8 140 rfl) rfl
theorem q1952 : (Jvm.Cond.constantLong "TreePressModel" (320 : Nat) (1634562107 : Int64)) ∈ lw_all := lw_g (lw_at lw_m8 141 rfl) rfl
theorem q1953 : (Jvm.Cond.constantLong "TreePressModel" (322 : Nat) (487301542971 : Int64)) ∈ lw_all := lw_g (lw_at lw_m8 142 rfl) rfl
theorem q1954 : (Jvm.Cond.constantLong "TreePressModel" (324 : Nat) (418498179899 : Int64)) ∈ lw_all := lw_g (lw_at lw_m8 143 rfl) rfl
theorem q1955 : (Jvm.Cond.constantLong "TreePressModel" (326 : Nat) (6 : Int64)) ∈ lw_all := lw_g (lw_at lw_m8 144 rfl) rfl
theorem q1956 : (Jvm.Cond.methodLink "TreePressModel" (335 : Nat) ({ cls := "TreePressModel", name := "keep", desc := "(II)V" } : Jvm.MethodName)) ∈ lw_all := lw_g (lw_at lw_m8 145 rfl) rfl
theorem q1957 : (Jvm.Cond.privateMethod ({ cls := "TreePressModel", name := "keep", desc := "(II)V" } : Jvm.MethodName)) ∈ lw_tbl := lw_at lw_m8 146 rfl
theorem q1958 : (Jvm.Cond.instanceMethod ({ cls := "TreePressModel", name := "keep", desc := "(II)V" } : Jvm.MethodName)) ∈ lw_all := lw_g (lw_at lw_m8 147 rfl) rfl
theorem q1959 : (Jvm.Cond.code ({ cls := "TreePressModel", name := "keep", desc := "(II)V" } : Jvm.MethodName) prog_21_method_19_code (3 : Nat) (Option.none : Option Jvm.ClassFile.FieldType)) ∈ lw_all := lw_g (lw_at lw_m8 148 rfl) rfl
theorem q1960 : (Jvm.Cond.methodLink "TreePressModel" (470 : Nat) ({ cls := "TreePressModel", name := "element", desc := "()V" } : Jvm.MethodName)) ∈ lw_all := lw_g (lw_at lw_m8 149 rfl) rfl
theorem q1961 : (Jvm.Cond.privateMethod ({ cls := "TreePressModel", name := "element", desc := "()V" } : Jvm.MethodName)) ∈ lw_tbl := lw_at lw_m8 150 rfl
theorem q1962 : (Jvm.Cond.instanceMethod ({ cls := "TreePressModel", name := "element", desc := "()V" } : Jvm.MethodName)) ∈ lw_all := lw_g (lw_at lw_m8 151 rfl) rfl
theorem q1963 : (Jvm.Cond.code ({ cls := "TreePressModel", name := "element", desc := "()V" } : Jvm.MethodName) prog_21_method_38_code (8 : Nat) (Option.none : Option Jvm.ClassFile.FieldType)) ∈ lw_all := lw_g (lw_at lw_m8 152 rfl) rfl
theorem q1964 : (Jvm.Cond.methodLink "TreePressModel" (450 : Nat) ({ cls := "TreePressModel", name := "attribute", desc := "(I)V" } : Jvm.MethodName)) ∈ lw_all := lw_g (lw_at lw_m8 153 rfl) rfl
theorem q1965 : (Jvm.Cond.privateMethod ({ cls := "TreePressModel", name := "attribute", desc := "(I)V" } : Jvm.MethodName)) ∈ lw_tbl := lw_at lw_m8 154 rfl
theorem q1966 : (Jvm.Cond.instanceMethod ({ cls := "TreePressModel", name := "attribute", desc := "(I)V" } : Jvm.MethodName)) ∈ lw_all := lw_g (lw_at lw_m8 155 rfl) rfl
theorem q1967 : (Jvm.Cond.code ({ cls := "TreePressModel", name := "attribute", desc := "(I)V" } : Jvm.MethodName) prog_21_method_41_code (7 : Nat) (Option.none : Option Jvm.ClassFile.FieldType)) ∈ lw_all := lw_g (lw_at lw_m8 156 rfl) rfl
theorem q1968 : (Jvm.Cond.methodLink "TreePressModel" (458 : Nat) ({ cls := "TreePressModel", name := "hasAttribute", desc := "(III)Z" } : Jvm.MethodName)) ∈ lw_all := lw_g (lw_at lw_m8 157 rfl) rfl
theorem q1969 : (Jvm.Cond.privateMethod ({ cls := "TreePressModel", name := "hasAttribute", desc := "(III)Z" } : Jvm.MethodName)) ∈ lw_tbl := lw_at lw_m8 158 rfl
theorem q1970 : (Jvm.Cond.instanceMethod ({ cls := "TreePressModel", name := "hasAttribute", desc := "(III)Z" } : Jvm.MethodName)) ∈ lw_all := lw_g (lw_at lw_m8 159 rfl) rfl
theorem q1971 : (Jvm.Cond.code ({ cls := "TreePressModel", name := "hasAttribute", desc := "(III)Z" } : Jvm.MethodName) prog_21_method_40_code (6 : Nat) (Option.some Jvm.ClassFile.FieldType.boolean)) ∈ lw_all := lw_g (lw_at lw_m8 160 rfl) rfl
theorem q1972 : (Jvm.Cond.methodLink "TreePressModel" (462 : Nat) ({ cls := "TreePressModel", name := "attributesOf", desc := "(I)I" } : Jvm.MethodName)) ∈ lw_all := lw_g (lw_at lw_m8 161 rfl) rfl
theorem q1973 : (Jvm.Cond.privateMethod ({ cls := "TreePressModel", name := "attributesOf", desc := "(I)I" } : Jvm.MethodName)) ∈ lw_tbl := lw_at lw_m8 162 rfl
theorem q1974 : (Jvm.Cond.instanceMethod ({ cls := "TreePressModel", name := "attributesOf", desc := "(I)I" } : Jvm.MethodName)) ∈ lw_all := lw_g (lw_at lw_m8 163 rfl) rfl
theorem q1975 : (Jvm.Cond.code ({ cls := "TreePressModel", name := "attributesOf", desc := "(I)I" } : Jvm.MethodName) prog_21_method_39_code (4 : Nat) (Option.some Jvm.ClassFile.FieldType.int)) ∈ lw_all := lw_g (lw_at lw_m8 164 rfl) rfl
theorem q1976 : (Jvm.Cond.constantLong "TreePressModel" (453 : Nat) (12094 : Int64)) ∈ lw_all := lw_g (lw_at lw_m8 165 rfl) rfl
theorem q1977 : (Jvm.Cond.methodLink "TreePressModel" (455 : Nat) ({ cls := "TreePressModel", name := "defaultsOf", desc := "(II)V" } : Jvm.MethodName)) ∈ lw_all := lw_g (lw_at lw_m8 166 rfl) rfl
theorem q1978 : (Jvm.Cond.privateMethod ({ cls := "TreePressModel", name := "defaultsOf", desc := "(II)V" } : Jvm.MethodName)) ∈ lw_tbl := lw_at lw_m8 167 rfl
theorem q1979 : (Jvm.Cond.instanceMethod ({ cls := "TreePressModel", name := "defaultsOf", desc := "(II)V" } : Jvm.MethodName)) ∈ lw_all := lw_g (lw_at lw_m8 168 rfl) rfl
theorem q1980 : (Jvm.Cond.code ({ cls := "TreePressModel", name := "defaultsOf", desc := "(II)V" } : Jvm.MethodName) prog_21_method_42_code (7 : Nat) (Option.none : Option Jvm.ClassFile.FieldType)) ∈ lw_all := lw_g (lw_at lw_m8 169 rfl) rfl
theorem q1981 : (Jvm.Cond.methodLink "TreePressModel" (495 : Nat) ({ cls := "TreePressModel", name := "content", desc := "()V" } : Jvm.MethodName)) ∈ lw_all := lw_g (lw_at lw_m8 170 rfl) rfl
theorem q1982 : (Jvm.Cond.privateMethod ({ cls := "TreePressModel", name := "content", desc := "()V" } : Jvm.MethodName)) ∈ lw_tbl := lw_at lw_m8 171 rfl
theorem q1983 : (Jvm.Cond.instanceMethod ({ cls := "TreePressModel", name := "content", desc := "()V" } : Jvm.MethodName)) ∈ lw_all := lw_g (lw_at lw_m8 172 rfl) rfl
theorem q1984 : (Jvm.Cond.code ({ cls := "TreePressModel", name := "content", desc := "()V" } : Jvm.MethodName) prog_21_method_45_code (1 : Nat) (Option.none : Option Jvm.ClassFile.FieldType)) ∈ lw_all := lw_g (lw_at lw_m8 173 rfl) rfl
theorem q1985 : (Jvm.Cond.constantLong "TreePressModel" (465 : Nat) (15407 : Int64)) ∈ lw_all := lw_g (lw_at lw_m8 174 rfl) rfl
theorem q1986 : (Jvm.Cond.methodLink "TreePressModel" (467 : Nat) ({ cls := "TreePressModel", name := "close", desc := "()V" } : Jvm.MethodName)) ∈ lw_all := lw_g (lw_at lw_m8 175 rfl) rfl
theorem q1987 : (Jvm.Cond.privateMethod ({ cls := "TreePressModel", name := "close", desc := "()V" } : Jvm.MethodName)) ∈ lw_tbl := lw_at lw_m8 176 rfl
theorem q1988 : (Jvm.Cond.instanceMethod ({ cls := "TreePressModel", name := "close", desc := "()V" } : Jvm.MethodName)) ∈ lw_all := lw_g (lw_at lw_m8 177 rfl) rfl
theorem q1989 : (Jvm.Cond.code ({ cls := "TreePressModel", name := "close", desc := "()V" } : Jvm.MethodName) prog_21_method_44_code (4 : Nat) (Option.none : Option Jvm.ClassFile.FieldType)) ∈ lw_all := lw_g (lw_at lw_m8 178 rfl) rfl
theorem q1990 : (Jvm.Cond.methodLink "TreePressModel" (473 : Nat) ({ cls := "TreePressModel", name := "text", desc := "()V" } : Jvm.MethodName)) ∈ lw_all := lw_g (lw_at lw_m8 179 rfl) rfl
theorem q1991 : (Jvm.Cond.privateMethod ({ cls := "TreePressModel", name := "text", desc := "()V" } : Jvm.MethodName)) ∈ lw_tbl := lw_at lw_m8 180 rfl
theorem q1992 : (Jvm.Cond.instanceMethod ({ cls := "TreePressModel", name := "text", desc := "()V" } : Jvm.MethodName)) ∈ lw_all := lw_g (lw_at lw_m8 181 rfl) rfl
theorem q1993 : (Jvm.Cond.code ({ cls := "TreePressModel", name := "text", desc := "()V" } : Jvm.MethodName) prog_21_method_43_code (5 : Nat) (Option.none : Option Jvm.ClassFile.FieldType)) ∈ lw_all := lw_g (lw_at lw_m8 182 rfl) rfl
theorem q1994 : (Jvm.Cond.methodLink "TreePressModel" (507 : Nat) ({ cls := "TreePressModel", name := "judge", desc := "()V" } : Jvm.MethodName)) ∈ lw_all := lw_g (lw_at lw_m8 183 rfl) rfl
theorem q1995 : (Jvm.Cond.privateMethod ({ cls := "TreePressModel", name := "judge", desc := "()V" } : Jvm.MethodName)) ∈ lw_tbl := lw_at lw_m8 184 rfl
theorem q1996 : (Jvm.Cond.instanceMethod ({ cls := "TreePressModel", name := "judge", desc := "()V" } : Jvm.MethodName)) ∈ lw_all := lw_g (lw_at lw_m8 185 rfl) rfl
theorem q1997 : (Jvm.Cond.code ({ cls := "TreePressModel", name := "judge", desc := "()V" } : Jvm.MethodName) prog_21_method_56_code (3 : Nat) (Option.none : Option Jvm.ClassFile.FieldType)) ∈ lw_all := lw_g (lw_at lw_m8 186 rfl) rfl
theorem q1998 : (Jvm.Cond.methodLink "TreePressModel" (537 : Nat) ({ cls := "TreePressModel", name := "judgeDecl", desc := "(I)V" } : Jvm.MethodName)) ∈ lw_all := lw_g (lw_at lw_m8 187 rfl) rfl
theorem q1999 : (Jvm.Cond.privateMethod ({ cls := "TreePressModel", name := "judgeDecl", desc := "(I)V" } : Jvm.MethodName)) ∈ lw_tbl := lw_at lw_m8 188 rfl
theorem q2000 : (Jvm.Cond.instanceMethod ({ cls := "TreePressModel", name := "judgeDecl", desc := "(I)V" } : Jvm.MethodName)) ∈ lw_all := lw_g (lw_at lw_m8 189 rfl) rfl
theorem q2001 : (Jvm.Cond.code ({ cls := "TreePressModel", name := "judgeDecl", desc := "(I)V" } : Jvm.MethodName) prog_21_method_52_code (5 : Nat) (Option.none : Option Jvm.ClassFile.FieldType)) ∈ lw_all := lw_g (lw_at lw_m8 190 rfl) rfl
theorem q2002 : (Jvm.Cond.methodLink "TreePressModel" (516 : Nat) ({ cls := "TreePressModel", name := "declOf", desc := "(II)I" } : Jvm.MethodName)) ∈ lw_all := lw_g (lw_at lw_m8 191 rfl) rfl
theorem q2003 : (Jvm.Cond.privateMethod ({ cls := "TreePressModel", name := "declOf", desc := "(II)I" } : Jvm.MethodName)) ∈ lw_tbl := lw_at lw_m8 192 rfl
theorem q2004 : (Jvm.Cond.instanceMethod ({ cls := "TreePressModel", name := "declOf", desc := "(II)I" } : Jvm.MethodName)) ∈ lw_all := lw_g (lw_at lw_m8 193 rfl) rfl
theorem q2005 : (Jvm.Cond.code ({ cls := "TreePressModel", name := "declOf", desc := "(II)I" } : Jvm.MethodName) prog_21_method_49_code (4 : Nat) (Option.some Jvm.ClassFile.FieldType.int)) ∈ lw_all := lw_g (lw_at lw_m8 194 rfl) rfl
theorem q2006 : (Jvm.Cond.methodLink "TreePressModel" (519 : Nat) ({ cls := "TreePressModel", name := "tellFinding", desc := "(II)V" } : Jvm.MethodName)) ∈ lw_all := lw_g (lw_at lw_m8 195 rfl) rfl
theorem q2007 : (Jvm.Cond.privateMethod ({ cls := "TreePressModel", name := "tellFinding", desc := "(II)V" } : Jvm.MethodName)) ∈ lw_tbl := lw_at lw_m8 196 rfl
theorem q2008 : (Jvm.Cond.instanceMethod ({ cls := "TreePressModel", name := "tellFinding", desc := "(II)V" } : Jvm.MethodName)) ∈ lw_all := lw_g (lw_at lw_m8 197 rfl) rfl
theorem q2009 : (Jvm.Cond.code ({ cls := "TreePressModel", name := "tellFinding", desc := "(II)V" } : Jvm.MethodName) prog_21_method_48_code (3 : Nat) (Option.none : Option Jvm.ClassFile.FieldType)) ∈ lw_all := lw_g (lw_at lw_m8 198 rfl) rfl
theorem q2010 : (Jvm.Cond.methodLink "TreePressModel" (522 : Nat) ({ cls := "TreePressModel", name := "isDoubled", desc := "(IJ)Z" } : Jvm.MethodName)) ∈ lw_all := lw_g (lw_at lw_m8 199 rfl) rfl
theorem q2011 : (Jvm.Cond.privateMethod ({ cls := "TreePressModel", name := "isDoubled", desc := "(IJ)Z" } : Jvm.MethodName)) ∈ lw_tbl := lw_at lw_m8 200 rfl
theorem q2012 : (Jvm.Cond.instanceMethod ({ cls := "TreePressModel", name := "isDoubled", desc := "(IJ)Z" } : Jvm.MethodName)) ∈ lw_all := lw_g (lw_at lw_m8 201 rfl) rfl
theorem q2013 : (Jvm.Cond.code ({ cls := "TreePressModel", name := "isDoubled", desc := "(IJ)Z" } : Jvm.MethodName) prog_21_method_51_code (7 : Nat) (Option.some Jvm.ClassFile.FieldType.boolean)) ∈ lw_all := lw_g (lw_at lw_m8 202 rfl) rfl
theorem q2014 : (Jvm.Cond.methodLink "TreePressModel" (513 : Nat) ({ cls := "TreePressModel", name := "areAlike", desc := "(III)Z" } : Jvm.MethodName)) ∈ lw_all := lw_g (lw_at lw_m8 203 rfl) rfl
theorem q2015 : (Jvm.Cond.privateMethod ({ cls := "TreePressModel", name := "areAlike", desc := "(III)Z" } : Jvm.MethodName)) ∈ lw_tbl := lw_at lw_m8 204 rfl
theorem q2016 : (Jvm.Cond.instanceMethod ({ cls := "TreePressModel", name := "areAlike", desc := "(III)Z" } : Jvm.MethodName)) ∈ lw_all := lw_g (lw_at lw_m8 205 rfl) rfl
theorem q2017 : (Jvm.Cond.code ({ cls := "TreePressModel", name := "areAlike", desc := "(III)Z" } : Jvm.MethodName) prog_21_method_50_code (4 : Nat) (Option.some Jvm.ClassFile.FieldType.boolean)) ∈ lw_all := lw_g (lw_at lw_m8 206 rfl) rfl
theorem q2018 : (Jvm.Cond.constantLong "TreePressModel" (526 : Nat) (-1 : Int64)) ∈ lw_all := lw_g (lw_at lw_m8 207 rfl) rfl
theorem q2019 : (Jvm.Cond.methodLink "TreePressModel" (540 : Nat) ({ cls := "TreePressModel", name := "judgeRule", desc := "(I)V" } : Jvm.MethodName)) ∈ lw_all := lw_g (lw_at lw_m8 208 rfl) rfl
theorem q2020 : (Jvm.Cond.privateMethod ({ cls := "TreePressModel", name := "judgeRule", desc := "(I)V" } : Jvm.MethodName)) ∈ lw_tbl := lw_at lw_m8 209 rfl
theorem q2021 : (Jvm.Cond.instanceMethod ({ cls := "TreePressModel", name := "judgeRule", desc := "(I)V" } : Jvm.MethodName)) ∈ lw_all := lw_g (lw_at lw_m8 210 rfl) rfl
theorem q2022 : (Jvm.Cond.code ({ cls := "TreePressModel", name := "judgeRule", desc := "(I)V" } : Jvm.MethodName) prog_21_method_55_code (5 : Nat) (Option.none : Option Jvm.ClassFile.FieldType)) ∈ lw_all := lw_g (lw_at lw_m8 211 rfl) rfl
theorem q2023 : (Jvm.Cond.methodLink "TreePressModel" (534 : Nat) ({ cls := "TreePressModel", name := "isOf", desc := "(III)Z" } : Jvm.MethodName)) ∈ lw_all := lw_g (lw_at lw_m8 212 rfl) rfl
theorem q2024 : (Jvm.Cond.privateMethod ({ cls := "TreePressModel", name := "isOf", desc := "(III)Z" } : Jvm.MethodName)) ∈ lw_tbl := lw_at lw_m8 213 rfl
theorem q2025 : (Jvm.Cond.instanceMethod ({ cls := "TreePressModel", name := "isOf", desc := "(III)Z" } : Jvm.MethodName)) ∈ lw_all := lw_g (lw_at lw_m8 214 rfl) rfl
theorem q2026 : (Jvm.Cond.code ({ cls := "TreePressModel", name := "isOf", desc := "(III)Z" } : Jvm.MethodName) prog_21_method_54_code (7 : Nat) (Option.some Jvm.ClassFile.FieldType.boolean)) ∈ lw_all := lw_g (lw_at lw_m8 215 rfl) rfl
theorem q2027 : (Jvm.Cond.methodLink "TreePressModel" (530 : Nat) ({ cls := "TreePressModel", name := "isName", desc := "(II)Z" } : Jvm.MethodName)) ∈ lw_all := lw_g (lw_at lw_m8 216 rfl) rfl
theorem q2028 : (Jvm.Cond.privateMethod ({ cls := "TreePressModel", name := "isName", desc := "(II)Z" } : Jvm.MethodName)) ∈ lw_tbl := lw_at lw_m8 217 rfl
theorem q2029 : (Jvm.Cond.instanceMethod ({ cls := "TreePressModel", name := "isName", desc := "(II)Z" } : Jvm.MethodName)) ∈ lw_all := lw_g (lw_at lw_m8 218 rfl) rfl
theorem q2030 : (Jvm.Cond.code ({ cls := "TreePressModel", name := "isName", desc := "(II)Z" } : Jvm.MethodName) prog_21_method_53_code (5 : Nat) (Option.some Jvm.ClassFile.FieldType.boolean)) ∈ lw_all := lw_g (lw_at lw_m8 219 rfl) rfl
theorem q2031 : (Jvm.Cond.constantLong "TreePressModel" (528 : Nat) (20 : Int64)) ∈ lw_all := lw_g (lw_at lw_m8 220 rfl) rfl
theorem q2032 : (Jvm.Cond.methodLink "TreePressModel" (543 : Nat) ({ cls := "TreePressModel", name := "judgeElement", desc := "(I)V" } : Jvm.MethodName)) ∈ lw_all := lw_g (lw_at lw_m8 221 rfl) rfl
theorem q2033 : (Jvm.Cond.privateMethod ({ cls := "TreePressModel", name := "judgeElement", desc := "(I)V" } : Jvm.MethodName)) ∈ lw_tbl := lw_at lw_m8 222 rfl
theorem q2034 : (Jvm.Cond.instanceMethod ({ cls := "TreePressModel", name := "judgeElement", desc := "(I)V" } : Jvm.MethodName)) ∈ lw_all := lw_g (lw_at lw_m8 223 rfl) rfl
theorem q2035 : (Jvm.Cond.code ({ cls := "TreePressModel", name := "judgeElement", desc := "(I)V" } : Jvm.MethodName) prog_21_method_60_code (6 : Nat) (Option.none : Option Jvm.ClassFile.FieldType)) ∈ lw_all := lw_g (lw_at lw_m8 224 rfl) rfl
theorem q2036 : (Jvm.Cond.methodLink "TreePressModel" (552 : Nat) ({ cls := "TreePressModel", name := "fits", desc := "(II)Z" } : Jvm.MethodName)) ∈ lw_all := lw_g (lw_at lw_m8 225 rfl) rfl
theorem q2037 : (Jvm.Cond.privateMethod ({ cls := "TreePressModel", name := "fits", desc := "(II)Z" } : Jvm.MethodName)) ∈ lw_tbl := lw_at lw_m8 226 rfl
theorem q2038 : (Jvm.Cond.instanceMethod ({ cls := "TreePressModel", name := "fits", desc := "(II)Z" } : Jvm.MethodName)) ∈ lw_all := lw_g (lw_at lw_m8 227 rfl) rfl
theorem q2039 : (Jvm.Cond.code ({ cls := "TreePressModel", name := "fits", desc := "(II)Z" } : Jvm.MethodName) prog_21_method_62_code (12 : Nat) (Option.some Jvm.ClassFile.FieldType.boolean)) ∈ lw_all := lw_g (lw_at lw_m8 228 rfl) rfl
theorem q2040 : (Jvm.Cond.methodLink "TreePressModel" (558 : Nat) ({ cls := "TreePressModel", name := "named", desc := "(IJI)J" } : Jvm.MethodName)) ∈ lw_all := lw_g (lw_at lw_m8 229 rfl) rfl
theorem q2041 : (Jvm.Cond.privateMethod ({ cls := "TreePressModel", name := "named", desc := "(IJI)J" } : Jvm.MethodName)) ∈ lw_tbl := lw_at lw_m8 230 rfl
theorem q2042 : (Jvm.Cond.instanceMethod ({ cls := "TreePressModel", name := "named", desc := "(IJI)J" } : Jvm.MethodName)) ∈ lw_all := lw_g (lw_at lw_m8 231 rfl) rfl
theorem q2043 : (Jvm.Cond.code ({ cls := "TreePressModel", name := "named", desc := "(IJI)J" } : Jvm.MethodName) prog_21_method_61_code (9 : Nat) (Option.some Jvm.ClassFile.FieldType.long)) ∈ lw_all := lw_g (lw_at lw_m8 232 rfl) rfl
theorem q2044 : (Jvm.Cond.methodLink "TreePressModel" (546 : Nat) ({ cls := "TreePressModel", name := "ruleFor", desc := "(II)I" } : Jvm.MethodName)) ∈ lw_all := lw_g (lw_at lw_m8 233 rfl) rfl
theorem q2045 : (Jvm.Cond.privateMethod ({ cls := "TreePressModel", name := "ruleFor", desc := "(II)I" } : Jvm.MethodName)) ∈ lw_tbl := lw_at lw_m8 234 rfl
theorem q2046 : (Jvm.Cond.instanceMethod ({ cls := "TreePressModel", name := "ruleFor", desc := "(II)I" } : Jvm.MethodName)) ∈ lw_all := lw_g (lw_at lw_m8 235 rfl) rfl
theorem q2047 : (Jvm.Cond.code ({ cls := "TreePressModel", name := "ruleFor", desc := "(II)I" } : Jvm.MethodName) prog_21_method_57_code (5 : Nat) (Option.some Jvm.ClassFile.FieldType.int)) ∈ lw_all := lw_g (lw_at lw_m8 236 rfl) rfl
theorem q2048 : (Jvm.Cond.methodLink "TreePressModel" (549 : Nat) ({ cls := "TreePressModel", name := "areSameKept", desc := "(IIII)Z" } : Jvm.MethodName)) ∈ lw_all := lw_g (lw_at lw_m8 237 rfl) rfl
theorem q2049 : (Jvm.Cond.privateMethod ({ cls := "TreePressModel", name := "areSameKept", desc := "(IIII)Z" } : Jvm.MethodName)) ∈ lw_tbl := lw_at lw_m8 238 rfl
theorem q2050 : (Jvm.Cond.instanceMethod ({ cls := "TreePressModel", name := "areSameKept", desc := "(IIII)Z" } : Jvm.MethodName)) ∈ lw_all := lw_g (lw_at lw_m8 239 rfl) rfl
theorem q2051 : (Jvm.Cond.code ({ cls := "TreePressModel", name := "areSameKept", desc := "(IIII)Z" } : Jvm.MethodName) prog_21_method_58_code (7 : Nat) (Option.some Jvm.ClassFile.FieldType.boolean)) ∈ lw_all := lw_g (lw_at lw_m9 0 rfl) rfl
theorem q2052 : (Jvm.Cond.methodLink "TreePressModel" (555 : Nat) ({ cls := "TreePressModel", name := "isTaken", desc := "(I)Z" } : Jvm.MethodName)) ∈ lw_all := lw_g (lw_at lw_m9 1 rfl) rfl
theorem q2053 : (Jvm.Cond.privateMethod ({ cls := "TreePressModel", name := "isTaken", desc := "(I)Z" } : Jvm.MethodName)) ∈ lw_tbl := lw_at lw_m9 2 rfl
theorem q2054 : (Jvm.Cond.instanceMethod ({ cls := "TreePressModel", name := "isTaken", desc := "(I)Z" } : Jvm.MethodName)) ∈ lw_all := lw_g (lw_at lw_m9 3 rfl) rfl
theorem q2055 : (Jvm.Cond.code ({ cls := "TreePressModel", name := "isTaken", desc := "(I)Z" } : Jvm.MethodName) prog_21_method_59_code (6 : Nat) (Option.some Jvm.ClassFile.FieldType.boolean)) ∈ lw_all := lw_g (lw_at lw_m9 4 rfl) rfl
theorem q2057 : (Jvm.Cond.instanceMethod ({ cls := "TreePressModel", name := "select", desc := "(II)I" } : Jvm.MethodName)) ∈ lw_all := lw_g (lw_at lw_m9 6 rfl) rfl
theorem q2058 : (Jvm.Cond.selects "TreePressModel" ({ cls := "TreePressModel", name := "select", desc := "(II)I" } : Jvm.MethodName) ({ cls := "TreePressModel", name := "select", desc := "(II)I" } : Jvm.MethodName)) ∈ lw_all := lw_g (lw_at lw_m9 7 rfl) rfl
theorem q2059 : (Jvm.Cond.code ({ cls := "TreePressModel", name := "select", desc := "(II)I" } : Jvm.MethodName) prog_21_method_74_code (4 : Nat) (Option.some Jvm.ClassFile.FieldType.int)) ∈ lw_all := lw_g (lw_at lw_m9 8 rfl) rfl
theorem q2060 : (Jvm.Cond.methodLink "TreePressModel" (612 : Nat) ({ cls := "TreePressModel", name := "path", desc := "()V" } : Jvm.MethodName)) ∈ lw_all := lw_g (lw_at lw_m9 9 rfl) rfl
theorem q2061 : (Jvm.Cond.privateMethod ({ cls := "TreePressModel", name := "path", desc := "()V" } : Jvm.MethodName)) ∈ lw_tbl := lw_at lw_m9 10 rfl
theorem q2062 : (Jvm.Cond.instanceMethod ({ cls := "TreePressModel", name := "path", desc := "()V" } : Jvm.MethodName)) ∈ lw_all := lw_g (lw_at lw_m9 11 rfl) rfl
theorem q2063 : (Jvm.Cond.code ({ cls := "TreePressModel", name := "path", desc := "()V" } : Jvm.MethodName) prog_21_method_66_code (3 : Nat) (Option.none : Option Jvm.ClassFile.FieldType)) ∈ lw_all := lw_g (lw_at lw_m9 12 rfl) rfl
theorem q2064 : (Jvm.Cond.constantLong "TreePressModel" (582 : Nat) (12079 : Int64)) ∈ lw_all := lw_g (lw_at lw_m9 13 rfl) rfl
theorem q2065 : (Jvm.Cond.methodLink "TreePressModel" (584 : Nat) ({ cls := "TreePressModel", name := "step", desc := "(Z)V" } : Jvm.MethodName)) ∈ lw_all := lw_g (lw_at lw_m9 14 rfl) rfl
theorem q2066 : (Jvm.Cond.privateMethod ({ cls := "TreePressModel", name := "step", desc := "(Z)V" } : Jvm.MethodName)) ∈ lw_tbl := lw_at lw_m9 15 rfl
theorem q2067 : (Jvm.Cond.instanceMethod ({ cls := "TreePressModel", name := "step", desc := "(Z)V" } : Jvm.MethodName)) ∈ lw_all := lw_g (lw_at lw_m9 16 rfl) rfl
theorem q2068 : (Jvm.Cond.code ({ cls := "TreePressModel", name := "step", desc := "(Z)V" } : Jvm.MethodName) prog_21_method_65_code (4 : Nat) (Option.none : Option Jvm.ClassFile.FieldType)) ∈ lw_all := lw_g (lw_at lw_m9 17 rfl) rfl
theorem q2069 : (Jvm.Cond.constantLong "TreePressModel" (572 : Nat) (11822 : Int64)) ∈ lw_all := lw_g (lw_at lw_m9 18 rfl) rfl
theorem q2070 : (Jvm.Cond.constantLong "TreePressModel" (574 : Nat) (127979161397289 : Int64)) ∈ lw_all := lw_g (lw_at lw_m9 19 rfl) rfl
theorem q2071 : (Jvm.Cond.methodLink "TreePressModel" (576 : Nat) ({ cls := "TreePressModel", name := "filter", desc := "(I)V" } : Jvm.MethodName)) ∈ lw_all := lw_g (lw_at lw_m9 20 rfl) rfl
theorem q2072 : (Jvm.Cond.privateMethod ({ cls := "TreePressModel", name := "filter", desc := "(I)V" } : Jvm.MethodName)) ∈ lw_tbl := lw_at lw_m9 21 rfl
theorem q2073 : (Jvm.Cond.instanceMethod ({ cls := "TreePressModel", name := "filter", desc := "(I)V" } : Jvm.MethodName)) ∈ lw_all := lw_g (lw_at lw_m9 22 rfl) rfl
theorem q2074 : (Jvm.Cond.code ({ cls := "TreePressModel", name := "filter", desc := "(I)V" } : Jvm.MethodName) prog_21_method_64_code (5 : Nat) (Option.none : Option Jvm.ClassFile.FieldType)) ∈ lw_all := lw_g (lw_at lw_m9 23 rfl) rfl
theorem q2075 : (Jvm.Cond.constantLong "TreePressModel" (562 : Nat) (119165804619817 : Int64)) ∈ lw_all := lw_g (lw_at lw_m9 24 rfl) rfl
theorem q2076 : (Jvm.Cond.methodLink "TreePressModel" (564 : Nat) ({ cls := "TreePressModel", name := "quoted", desc := "(I)V" } : Jvm.MethodName)) ∈ lw_all := lw_g (lw_at lw_m9 25 rfl) rfl
theorem q2077 : (Jvm.Cond.privateMethod ({ cls := "TreePressModel", name := "quoted", desc := "(I)V" } : Jvm.MethodName)) ∈ lw_tbl := lw_at lw_m9 26 rfl
theorem q2078 : (Jvm.Cond.instanceMethod ({ cls := "TreePressModel", name := "quoted", desc := "(I)V" } : Jvm.MethodName)) ∈ lw_all := lw_g (lw_at lw_m9 27 rfl) rfl
theorem q2079 : (Jvm.Cond.code ({ cls := "TreePressModel", name := "quoted", desc := "(I)V" } : Jvm.MethodName) prog_21_method_63_code (3 : Nat) (Option.none : Option Jvm.ClassFile.FieldType)) ∈ lw_all := lw_g (lw_at lw_m9 28 rfl) rfl
theorem q2080 : (Jvm.Cond.constantLong "TreePressModel" (567 : Nat) (11837 : Int64)) ∈ lw_all := lw_g (lw_at lw_m9 29 rfl) rfl
theorem q2081 : (Jvm.Cond.methodLink "TreePressModel" (615 : Nat) ({ cls := "TreePressModel", name := "goStep", desc := "(I)V" } : Jvm.MethodName)) ∈ lw_all := lw_g (lw_at lw_m9 30 rfl) rfl
theorem q2082 : (Jvm.Cond.privateMethod ({ cls := "TreePressModel", name := "goStep", desc := "(I)V" } : Jvm.MethodName)) ∈ lw_tbl := lw_at lw_m9 31 rfl
theorem q2083 : (Jvm.Cond.instanceMethod ({ cls := "TreePressModel", name := "goStep", desc := "(I)V" } : Jvm.MethodName)) ∈ lw_all := lw_g (lw_at lw_m9 32 rfl) rfl
theorem q2084 : (Jvm.Cond.code ({ cls := "TreePressModel", name := "goStep", desc := "(I)V" } : Jvm.MethodName) prog_21_method_73_code (5 : Nat) (Option.none : Option Jvm.ClassFile.FieldType)) ∈ lw_all := lw_g (lw_at lw_m9 33 rfl) rfl
theorem q2085 : (Jvm.Cond.methodLink "TreePressModel" (603 : Nat) ({ cls := "TreePressModel", name := "isWithin", desc := "(II)Z" } : Jvm.MethodName)) ∈ lw_all := lw_g (lw_at lw_m9 34 rfl) rfl
theorem q2086 : (Jvm.Cond.privateMethod ({ cls := "TreePressModel", name := "isWithin", desc := "(II)Z" } : Jvm.MethodName)) ∈ lw_tbl := lw_at lw_m9 35 rfl
theorem q2087 : (Jvm.Cond.instanceMethod ({ cls := "TreePressModel", name := "isWithin", desc := "(II)Z" } : Jvm.MethodName)) ∈ lw_all := lw_g (lw_at lw_m9 36 rfl) rfl
theorem q2088 : (Jvm.Cond.code ({ cls := "TreePressModel", name := "isWithin", desc := "(II)Z" } : Jvm.MethodName) prog_21_method_72_code (5 : Nat) (Option.some Jvm.ClassFile.FieldType.boolean)) ∈ lw_all := lw_g (lw_at lw_m9 37 rfl) rfl
theorem q2089 : (Jvm.Cond.methodLink "TreePressModel" (606 : Nat) ({ cls := "TreePressModel", name := "leads", desc := "(III)Z" } : Jvm.MethodName)) ∈ lw_all := lw_g (lw_at lw_m9 38 rfl) rfl
theorem q2090 : (Jvm.Cond.privateMethod ({ cls := "TreePressModel", name := "leads", desc := "(III)Z" } : Jvm.MethodName)) ∈ lw_tbl := lw_at lw_m9 39 rfl
theorem q2091 : (Jvm.Cond.instanceMethod ({ cls := "TreePressModel", name := "leads", desc := "(III)Z" } : Jvm.MethodName)) ∈ lw_all := lw_g (lw_at lw_m9 40 rfl) rfl
theorem q2092 : (Jvm.Cond.code ({ cls := "TreePressModel", name := "leads", desc := "(III)Z" } : Jvm.MethodName) prog_21_method_68_code (6 : Nat) (Option.some Jvm.ClassFile.FieldType.boolean)) ∈ lw_all := lw_g (lw_at lw_m9 41 rfl) rfl
theorem q2093 : (Jvm.Cond.methodLink "TreePressModel" (588 : Nat) ({ cls := "TreePressModel", name := "isCalled", desc := "(III)Z" } : Jvm.MethodName)) ∈ lw_all := lw_g (lw_at lw_m9 42 rfl) rfl
theorem q2094 : (Jvm.Cond.privateMethod ({ cls := "TreePressModel", name := "isCalled", desc := "(III)Z" } : Jvm.MethodName)) ∈ lw_tbl := lw_at lw_m9 43 rfl
theorem q2095 : (Jvm.Cond.instanceMethod ({ cls := "TreePressModel", name := "isCalled", desc := "(III)Z" } : Jvm.MethodName)) ∈ lw_all := lw_g (lw_at lw_m9 44 rfl) rfl
theorem q2096 : (Jvm.Cond.code ({ cls := "TreePressModel", name := "isCalled", desc := "(III)Z" } : Jvm.MethodName) prog_21_method_67_code (6 : Nat) (Option.some Jvm.ClassFile.FieldType.boolean)) ∈ lw_all := lw_g (lw_at lw_m9 45 rfl) rfl
theorem q2097 : (Jvm.Cond.methodLink "TreePressModel" (609 : Nat) ({ cls := "TreePressModel", name := "filterMine", desc := "(I)V" } : Jvm.MethodName)) ∈ lw_all := lw_g (lw_at lw_m9 46 rfl) rfl
theorem q2098 : (Jvm.Cond.privateMethod ({ cls := "TreePressModel", name := "filterMine", desc := "(I)V" } : Jvm.MethodName)) ∈ lw_tbl := lw_at lw_m9 47 rfl
theorem q2099 : (Jvm.Cond.instanceMethod ({ cls := "TreePressModel", name := "filterMine", desc := "(I)V" } : Jvm.MethodName)) ∈ lw_all := lw_g (lw_at lw_m9 48 rfl) rfl
theorem q2100 : (Jvm.Cond.code ({ cls := "TreePressModel", name := "filterMine", desc := "(I)V" } : Jvm.MethodName) prog_21_method_71_code (5 : Nat) (Option.none : Option Jvm.ClassFile.FieldType)) ∈ lw_all := lw_g (lw_at lw_m9 49 rfl) rfl
theorem q2101 : (Jvm.Cond.methodLink "TreePressModel" (600 : Nat) ({ cls := "TreePressModel", name := "passesFilter", desc := "(II)Z" } : Jvm.MethodName)) ∈ lw_all := lw_g (lw_at lw_m9 50 rfl) rfl
theorem q2102 : (Jvm.Cond.privateMethod ({ cls := "TreePressModel", name := "passesFilter", desc := "(II)Z" } : Jvm.MethodName)) ∈ lw_tbl := lw_at lw_m9 51 rfl
theorem q2103 : (Jvm.Cond.instanceMethod ({ cls := "TreePressModel", name := "passesFilter", desc := "(II)Z" } : Jvm.MethodName)) ∈ lw_all := lw_g (lw_at lw_m9 52 rfl) rfl
theorem q2104 : (Jvm.Cond.code ({ cls := "TreePressModel", name := "passesFilter", desc := "(II)Z" } : Jvm.MethodName) prog_21_method_70_code (5 : Nat) (Option.some Jvm.ClassFile.FieldType.boolean)) ∈ lw_all := lw_g (lw_at lw_m9 53 rfl) rfl
theorem q2105 : (Jvm.Cond.methodLink "TreePressModel" (597 : Nat) ({ cls := "TreePressModel", name := "hasString", desc := "(III)Z" } : Jvm.MethodName)) ∈ lw_all := lw_g (lw_at lw_m9 54 rfl) rfl
theorem q2106 : (Jvm.Cond.privateMethod ({ cls := "TreePressModel", name := "hasString", desc := "(III)Z" } : Jvm.MethodName)) ∈ lw_tbl := lw_at lw_m9 55 rfl
theorem q2107 : (Jvm.Cond.instanceMethod ({ cls := "TreePressModel", name := "hasString", desc := "(III)Z" } : Jvm.MethodName)) ∈ lw_all := lw_g (lw_at lw_m9 56 rfl) rfl
theorem q2108 : (Jvm.Cond.code ({ cls := "TreePressModel", name := "hasString", desc := "(III)Z" } : Jvm.MethodName) prog_21_method_69_code (6 : Nat) (Option.some Jvm.ClassFile.FieldType.boolean)) ∈ lw_all := lw_g (lw_at lw_m9 57 rfl) rfl
theorem q2109 : (Jvm.Cond.methodLink "TreePressModel" (591 : Nat) ({ cls := "TreePressModel", name := "stringOf", desc := "(I)I" } : Jvm.MethodName)) ∈ lw_all := lw_g (lw_at lw_m9 58 rfl) rfl
theorem q2110 : (Jvm.Cond.privateMethod ({ cls := "TreePressModel", name := "stringOf", desc := "(I)I" } : Jvm.MethodName)) ∈ lw_tbl := lw_at lw_m9 59 rfl
theorem q2111 : (Jvm.Cond.instanceMethod ({ cls := "TreePressModel", name := "stringOf", desc := "(I)I" } : Jvm.MethodName)) ∈ lw_all := lw_g (lw_at lw_m9 60 rfl) rfl
theorem q2112 : (Jvm.Cond.code ({ cls := "TreePressModel", name := "stringOf", desc := "(I)I" } : Jvm.MethodName) prog_21_method_89_code (5 : Nat) (Option.some Jvm.ClassFile.FieldType.int)) ∈ lw_all := lw_g (lw_at lw_m9 61 rfl) rfl
theorem q2113 : (Jvm.Cond.methodLink "TreePressModel" (594 : Nat) ({ cls := "TreePressModel", name := "stringAt", desc := "(II)I" } : Jvm.MethodName)) ∈ lw_all := lw_g (lw_at lw_m9 62 rfl) rfl
theorem q2114 : (Jvm.Cond.privateMethod ({ cls := "TreePressModel", name := "stringAt", desc := "(II)I" } : Jvm.MethodName)) ∈ lw_tbl := lw_at lw_m9 63 rfl
theorem q2115 : (Jvm.Cond.instanceMethod ({ cls := "TreePressModel", name := "stringAt", desc := "(II)I" } : Jvm.MethodName)) ∈ lw_all := lw_g (lw_at lw_m9 64 rfl) rfl
theorem q2116 : (Jvm.Cond.code ({ cls := "TreePressModel", name := "stringAt", desc := "(II)I" } : Jvm.MethodName) prog_21_method_90_code (7 : Nat) (Option.some Jvm.ClassFile.FieldType.int)) ∈ lw_all := lw_g (lw_at lw_m9 65 rfl) rfl
theorem q2118 : (Jvm.Cond.instanceMethod ({ cls := "TreePressModel", name := "told", desc := "(I)I" } : Jvm.MethodName)) ∈ lw_all := lw_g (lw_at lw_m9 67 rfl) rfl
theorem q2119 : (Jvm.Cond.selects "TreePressModel" ({ cls := "TreePressModel", name := "told", desc := "(I)I" } : Jvm.MethodName) ({ cls := "TreePressModel", name := "told", desc := "(I)I" } : Jvm.MethodName)) ∈ lw_all := lw_g (lw_at lw_m9 68 rfl) rfl
theorem q2120 : (Jvm.Cond.code ({ cls := "TreePressModel", name := "told", desc := "(I)I" } : Jvm.MethodName) prog_21_method_75_code (2 : Nat) (Option.some Jvm.ClassFile.FieldType.int)) ∈ lw_all := lw_g (lw_at lw_m9 69 rfl) rfl
theorem q2122 : (Jvm.Cond.instanceMethod ({ cls := "TreePressModel", name := "set", desc := "(II)I" } : Jvm.MethodName)) ∈ lw_all := lw_g (lw_at lw_m9 71 rfl) rfl
theorem q2123 : (Jvm.Cond.selects "TreePressModel" ({ cls := "TreePressModel", name := "set", desc := "(II)I" } : Jvm.MethodName) ({ cls := "TreePressModel", name := "set", desc := "(II)I" } : Jvm.MethodName)) ∈ lw_all := lw_g (lw_at lw_m9 72 rfl) rfl
theorem q2124 : (Jvm.Cond.code ({ cls := "TreePressModel", name := "set", desc := "(II)I" } : Jvm.MethodName) prog_21_method_82_code (6 : Nat) (Option.some Jvm.ClassFile.FieldType.int)) ∈ lw_all := lw_g (lw_at lw_m9 73 rfl) rfl
theorem q2125 : (Jvm.Cond.constantLong "TreePressModel" (642 : Nat) (60 : Int64)) ∈ lw_all := lw_g (lw_at lw_m9 74 rfl) rfl
theorem q2126 : (Jvm.Cond.constantLong "TreePressModel" (644 : Nat) (50 : Int64)) ∈ lw_all := lw_g (lw_at lw_m9 75 rfl) rfl
theorem q2127 : (Jvm.Cond.methodLink "TreePressModel" (646 : Nat) ({ cls := "TreePressModel", name := "leave", desc := "(II)I" } : Jvm.MethodName)) ∈ lw_all := lw_g (lw_at lw_m9 76 rfl) rfl
theorem q2128 : (Jvm.Cond.privateMethod ({ cls := "TreePressModel", name := "leave", desc := "(II)I" } : Jvm.MethodName)) ∈ lw_tbl := lw_at lw_m9 77 rfl
theorem q2129 : (Jvm.Cond.instanceMethod ({ cls := "TreePressModel", name := "leave", desc := "(II)I" } : Jvm.MethodName)) ∈ lw_all := lw_g (lw_at lw_m9 78 rfl) rfl
theorem q2130 : (Jvm.Cond.code ({ cls := "TreePressModel", name := "leave", desc := "(II)I" } : Jvm.MethodName) prog_21_method_81_code (5 : Nat) (Option.some Jvm.ClassFile.FieldType.int)) ∈ lw_all := lw_g (lw_at lw_m9 79 rfl) rfl
theorem q2131 : (Jvm.Cond.methodLink "TreePressModel" (633 : Nat) ({ cls := "TreePressModel", name := "isBlock", desc := "(I)Z" } : Jvm.MethodName)) ∈ lw_all := lw_g (lw_at lw_m9 80 rfl) rfl
theorem q2132 : (Jvm.Cond.privateMethod ({ cls := "TreePressModel", name := "isBlock", desc := "(I)Z" } : Jvm.MethodName)) ∈ lw_tbl := lw_at lw_m9 81 rfl
theorem q2133 : (Jvm.Cond.instanceMethod ({ cls := "TreePressModel", name := "isBlock", desc := "(I)Z" } : Jvm.MethodName)) ∈ lw_all := lw_g (lw_at lw_m9 82 rfl) rfl
theorem q2134 : (Jvm.Cond.code ({ cls := "TreePressModel", name := "isBlock", desc := "(I)Z" } : Jvm.MethodName) prog_21_method_79_code (3 : Nat) (Option.some Jvm.ClassFile.FieldType.boolean)) ∈ lw_all := lw_g (lw_at lw_m9 83 rfl) rfl
theorem q2135 : (Jvm.Cond.methodLink "TreePressModel" (636 : Nat) ({ cls := "TreePressModel", name := "endWord", desc := "()V" } : Jvm.MethodName)) ∈ lw_all := lw_g (lw_at lw_m9 84 rfl) rfl
theorem q2136 : (Jvm.Cond.privateMethod ({ cls := "TreePressModel", name := "endWord", desc := "()V" } : Jvm.MethodName)) ∈ lw_tbl := lw_at lw_m9 85 rfl
theorem q2137 : (Jvm.Cond.instanceMethod ({ cls := "TreePressModel", name := "endWord", desc := "()V" } : Jvm.MethodName)) ∈ lw_all := lw_g (lw_at lw_m9 86 rfl) rfl
theorem q2138 : (Jvm.Cond.code ({ cls := "TreePressModel", name := "endWord", desc := "()V" } : Jvm.MethodName) prog_21_method_78_code (2 : Nat) (Option.none : Option Jvm.ClassFile.FieldType)) ∈ lw_all := lw_g (lw_at lw_m9 87 rfl) rfl
theorem q2139 : (Jvm.Cond.methodLink "TreePressModel" (627 : Nat) ({ cls := "TreePressModel", name := "toLine", desc := "(II)V" } : Jvm.MethodName)) ∈ lw_all := lw_g (lw_at lw_m9 88 rfl) rfl
theorem q2140 : (Jvm.Cond.privateMethod ({ cls := "TreePressModel", name := "toLine", desc := "(II)V" } : Jvm.MethodName)) ∈ lw_tbl := lw_at lw_m9 89 rfl
theorem q2141 : (Jvm.Cond.instanceMethod ({ cls := "TreePressModel", name := "toLine", desc := "(II)V" } : Jvm.MethodName)) ∈ lw_all := lw_g (lw_at lw_m9 90 rfl) rfl
theorem q2142 : (Jvm.Cond.code ({ cls := "TreePressModel", name := "toLine", desc := "(II)V" } : Jvm.MethodName) prog_21_method_76_code (4 : Nat) (Option.none : Option Jvm.ClassFile.FieldType)) ∈ lw_all := lw_g (lw_at lw_m9 91 rfl) rfl
theorem q2143 : (Jvm.Cond.methodLink "TreePressModel" (630 : Nat) ({ cls := "TreePressModel", name := "endLine", desc := "()V" } : Jvm.MethodName)) ∈ lw_all := lw_g (lw_at lw_m9 92 rfl) rfl
theorem q2144 : (Jvm.Cond.privateMethod ({ cls := "TreePressModel", name := "endLine", desc := "()V" } : Jvm.MethodName)) ∈ lw_tbl := lw_at lw_m9 93 rfl
theorem q2145 : (Jvm.Cond.instanceMethod ({ cls := "TreePressModel", name := "endLine", desc := "()V" } : Jvm.MethodName)) ∈ lw_all := lw_g (lw_at lw_m9 94 rfl) rfl
theorem q2146 : (Jvm.Cond.code ({ cls := "TreePressModel", name := "endLine", desc := "()V" } : Jvm.MethodName) prog_21_method_77_code (1 : Nat) (Option.none : Option Jvm.ClassFile.FieldType)) ∈ lw_all := lw_g (lw_at lw_m9 95 rfl) rfl
theorem q2147 : (Jvm.Cond.methodLink "TreePressModel" (649 : Nat) ({ cls := "TreePressModel", name := "beginElement", desc := "(I)V" } : Jvm.MethodName)) ∈ lw_all := lw_g (lw_at lw_m9 96 rfl) rfl
theorem q2148 : (Jvm.Cond.privateMethod ({ cls := "TreePressModel", name := "beginElement", desc := "(I)V" } : Jvm.MethodName)) ∈ lw_tbl := lw_at lw_m9 97 rfl
theorem q2149 : (Jvm.Cond.instanceMethod ({ cls := "TreePressModel", name := "beginElement", desc := "(I)V" } : Jvm.MethodName)) ∈ lw_all := lw_g (lw_at lw_m9 98 rfl) rfl
theorem q2150 : (Jvm.Cond.code ({ cls := "TreePressModel", name := "beginElement", desc := "(I)V" } : Jvm.MethodName) prog_21_method_83_code (2 : Nat) (Option.none : Option Jvm.ClassFile.FieldType)) ∈ lw_all := lw_g (lw_at lw_m9 99 rfl) rfl
theorem q2151 : (Jvm.Cond.methodLink "TreePressModel" (658 : Nat) ({ cls := "TreePressModel", name := "isKept", desc := "(I)Z" } : Jvm.MethodName)) ∈ lw_all := lw_g (lw_at lw_m9 100 rfl) rfl
theorem q2152 : (Jvm.Cond.privateMethod ({ cls := "TreePressModel", name := "isKept", desc := "(I)Z" } : Jvm.MethodName)) ∈ lw_tbl := lw_at lw_m9 101 rfl
theorem q2153 : (Jvm.Cond.instanceMethod ({ cls := "TreePressModel", name := "isKept", desc := "(I)Z" } : Jvm.MethodName)) ∈ lw_all := lw_g (lw_at lw_m9 102 rfl) rfl
theorem q2154 : (Jvm.Cond.code ({ cls := "TreePressModel", name := "isKept", desc := "(I)Z" } : Jvm.MethodName) prog_21_method_80_code (5 : Nat) (Option.some Jvm.ClassFile.FieldType.boolean)) ∈ lw_all := lw_g (lw_at lw_m9 103 rfl) rfl
theorem q2155 : (Jvm.Cond.methodLink "TreePressModel" (652 : Nat) ({ cls := "TreePressModel", name := "setText", desc := "(I)V" } : Jvm.MethodName)) ∈ lw_all := lw_g (lw_at lw_m9 104 rfl) rfl
theorem q2156 : (Jvm.Cond.privateMethod ({ cls := "TreePressModel", name := "setText", desc := "(I)V" } : Jvm.MethodName)) ∈ lw_tbl := lw_at lw_m9 105 rfl
theorem q2157 : (Jvm.Cond.instanceMethod ({ cls := "TreePressModel", name := "setText", desc := "(I)V" } : Jvm.MethodName)) ∈ lw_all := lw_g (lw_at lw_m9 106 rfl) rfl
theorem q2158 : (Jvm.Cond.code ({ cls := "TreePressModel", name := "setText", desc := "(I)V" } : Jvm.MethodName) prog_21_method_84_code (4 : Nat) (Option.none : Option Jvm.ClassFile.FieldType)) ∈ lw_all := lw_g (lw_at lw_m9 107 rfl) rfl
theorem q2159 : (Jvm.Cond.methodLink "TreePressModel" (655 : Nat) ({ cls := "TreePressModel", name := "toPages", desc := "(I)V" } : Jvm.MethodName)) ∈ lw_all := lw_g (lw_at lw_m9 108 rfl) rfl
theorem q2160 : (Jvm.Cond.privateMethod ({ cls := "TreePressModel", name := "toPages", desc := "(I)V" } : Jvm.MethodName)) ∈ lw_tbl := lw_at lw_m9 109 rfl
theorem q2161 : (Jvm.Cond.instanceMethod ({ cls := "TreePressModel", name := "toPages", desc := "(I)V" } : Jvm.MethodName)) ∈ lw_all := lw_g (lw_at lw_m9 110 rfl) rfl
theorem q2162 : (Jvm.Cond.code ({ cls := "TreePressModel", name := "toPages", desc := "(I)V" } : Jvm.MethodName) prog_21_method_85_code (7 : Nat) (Option.none : Option Jvm.ClassFile.FieldType)) ∈ lw_all := lw_g (lw_at lw_m9 111 rfl) rfl
theorem q2164 : (Jvm.Cond.instanceMethod ({ cls := "TreePressModel", name := "feed", desc := "(IIIII)I" } : Jvm.MethodName)) ∈ lw_all := lw_g (lw_at lw_m9 113 rfl) rfl
theorem q2165 : (Jvm.Cond.selects "TreePressModel" ({ cls := "TreePressModel", name := "feed", desc := "(IIIII)I" } : Jvm.MethodName) ({ cls := "TreePressModel", name := "feed", desc := "(IIIII)I" } : Jvm.MethodName)) ∈ lw_all := lw_g (lw_at lw_m9 114 rfl) rfl
theorem q2166 : (Jvm.Cond.code ({ cls := "TreePressModel", name := "feed", desc := "(IIIII)I" } : Jvm.MethodName) prog_21_method_86_code (8 : Nat) (Option.some Jvm.ClassFile.FieldType.int)) ∈ lw_all := lw_g (lw_at lw_m9 115 rfl) rfl
theorem q2168 : (Jvm.Cond.instanceMethod ({ cls := "TreePressModel", name := "place", desc := "()I" } : Jvm.MethodName)) ∈ lw_all := lw_g (lw_at lw_m9 117 rfl) rfl
theorem q2169 : (Jvm.Cond.selects "TreePressModel" ({ cls := "TreePressModel", name := "place", desc := "()I" } : Jvm.MethodName) ({ cls := "TreePressModel", name := "place", desc := "()I" } : Jvm.MethodName)) ∈ lw_all := lw_g (lw_at lw_m9 118 rfl) rfl
theorem q2170 : (Jvm.Cond.code ({ cls := "TreePressModel", name := "place", desc := "()I" } : Jvm.MethodName) prog_21_method_87_code (1 : Nat) (Option.some Jvm.ClassFile.FieldType.int)) ∈ lw_all := lw_g (lw_at lw_m9 119 rfl) rfl
theorem q2172 : (Jvm.Cond.instanceMethod ({ cls := "TreePressModel", name := "node", desc := "(II)I" } : Jvm.MethodName)) ∈ lw_all := lw_g (lw_at lw_m9 121 rfl) rfl
theorem q2173 : (Jvm.Cond.selects "TreePressModel" ({ cls := "TreePressModel", name := "node", desc := "(II)I" } : Jvm.MethodName) ({ cls := "TreePressModel", name := "node", desc := "(II)I" } : Jvm.MethodName)) ∈ lw_all := lw_g (lw_at lw_m9 122 rfl) rfl
theorem q2174 : (Jvm.Cond.code ({ cls := "TreePressModel", name := "node", desc := "(II)I" } : Jvm.MethodName) prog_21_method_91_code (7 : Nat) (Option.some Jvm.ClassFile.FieldType.int)) ∈ lw_all := lw_g (lw_at lw_m9 123 rfl) rfl
theorem q2175 : (Jvm.Cond.methodLink "TreePressModel" (664 : Nat) ({ cls := "TreePressModel", name := "isNode", desc := "(I)Z" } : Jvm.MethodName)) ∈ lw_all := lw_g (lw_at lw_m9 124 rfl) rfl
theorem q2176 : (Jvm.Cond.privateMethod ({ cls := "TreePressModel", name := "isNode", desc := "(I)Z" } : Jvm.MethodName)) ∈ lw_tbl := lw_at lw_m9 125 rfl
theorem q2177 : (Jvm.Cond.instanceMethod ({ cls := "TreePressModel", name := "isNode", desc := "(I)Z" } : Jvm.MethodName)) ∈ lw_all := lw_g (lw_at lw_m9 126 rfl) rfl
theorem q2178 : (Jvm.Cond.code ({ cls := "TreePressModel", name := "isNode", desc := "(I)Z" } : Jvm.MethodName) prog_21_method_88_code (2 : Nat) (Option.some Jvm.ClassFile.FieldType.boolean)) ∈ lw_all := lw_g (lw_at lw_m9 127 rfl) rfl
theorem q2180 : (Jvm.Cond.instanceMethod ({ cls := "TreePressModel", name := "name", desc := "(II)I" } : Jvm.MethodName)) ∈ lw_all := lw_g (lw_at lw_m9 129 rfl) rfl
theorem q2181 : (Jvm.Cond.selects "TreePressModel" ({ cls := "TreePressModel", name := "name", desc := "(II)I" } : Jvm.MethodName) ({ cls := "TreePressModel", name := "name", desc := "(II)I" } : Jvm.MethodName)) ∈ lw_all := lw_g (lw_at lw_m9 130 rfl) rfl
theorem q2182 : (Jvm.Cond.code ({ cls := "TreePressModel", name := "name", desc := "(II)I" } : Jvm.MethodName) prog_21_method_92_code (3 : Nat) (Option.some Jvm.ClassFile.FieldType.int)) ∈ lw_all := lw_g (lw_at lw_m9 131 rfl) rfl
theorem q2184 : (Jvm.Cond.instanceMethod ({ cls := "TreePressModel", name := "string", desc := "(II)I" } : Jvm.MethodName)) ∈ lw_all := lw_g (lw_at lw_m9 133 rfl) rfl
theorem q2185 : (Jvm.Cond.selects "TreePressModel" ({ cls := "TreePressModel", name := "string", desc := "(II)I" } : Jvm.MethodName) ({ cls := "TreePressModel", name := "string", desc := "(II)I" } : Jvm.MethodName)) ∈ lw_all := lw_g (lw_at lw_m9 134 rfl) rfl
theorem q2186 : (Jvm.Cond.code ({ cls := "TreePressModel", name := "string", desc := "(II)I" } : Jvm.MethodName) prog_21_method_93_code (3 : Nat) (Option.some Jvm.ClassFile.FieldType.int)) ∈ lw_all := lw_g (lw_at lw_m9 135 rfl) rfl
theorem q2188 : (Jvm.Cond.instanceMethod ({ cls := "TreePressModel", name := "findings", desc := "()I" } : Jvm.MethodName)) ∈ lw_all := lw_g (lw_at lw_m9 137 rfl) rfl
theorem q2189 : (Jvm.Cond.selects "TreePressModel" ({ cls := "TreePressModel", name := "findings", desc := "()I" } : Jvm.MethodName) ({ cls := "TreePressModel", name := "findings", desc := "()I" } : Jvm.MethodName)) ∈ lw_all := lw_g (lw_at lw_m9 138 rfl) rfl
theorem q2190 : (Jvm.Cond.code ({ cls := "TreePressModel", name := "findings", desc := "()I" } : Jvm.MethodName) prog_21_method_94_code (1 : Nat) (Option.some Jvm.ClassFile.FieldType.int)) ∈ lw_all := lw_g (lw_at lw_m9 139 rfl) rfl
theorem q2192 : (Jvm.Cond.instanceMethod ({ cls := "TreePressModel", name := "finding", desc := "(II)I" } : Jvm.MethodName)) ∈ lw_all := lw_g (lw_at lw_m9 141 rfl) rfl
theorem q2193 : (Jvm.Cond.selects "TreePressModel" ({ cls := "TreePressModel", name := "finding", desc := "(II)I" } : Jvm.MethodName) ({ cls := "TreePressModel", name := "finding", desc := "(II)I" } : Jvm.MethodName)) ∈ lw_all := lw_g (lw_at lw_m9 142 rfl) rfl
theorem q2194 : (Jvm.Cond.code ({ cls := "TreePressModel", name := "finding", desc := "(II)I" } : Jvm.MethodName) prog_21_method_95_code (3 : Nat) (Option.some Jvm.ClassFile.FieldType.int)) ∈ lw_all := lw_g (lw_at lw_m9 143 rfl) rfl
theorem q2195 : (Jvm.Cond.methodLink "TreePressModel" (667 : Nat) ({ cls := "TreePressModel", name := "findings", desc := "()I" } : Jvm.MethodName)) ∈ lw_all := lw_g (lw_at lw_m9 144 rfl) rfl
theorem q2197 : (Jvm.Cond.instanceMethod ({ cls := "TreePressModel", name := "line", desc := "(II)I" } : Jvm.MethodName)) ∈ lw_all := lw_g (lw_at lw_m9 146 rfl) rfl
theorem q2198 : (Jvm.Cond.selects "TreePressModel" ({ cls := "TreePressModel", name := "line", desc := "(II)I" } : Jvm.MethodName) ({ cls := "TreePressModel", name := "line", desc := "(II)I" } : Jvm.MethodName)) ∈ lw_all := lw_g (lw_at lw_m9 147 rfl) rfl
theorem q2199 : (Jvm.Cond.code ({ cls := "TreePressModel", name := "line", desc := "(II)I" } : Jvm.MethodName) prog_21_method_96_code (3 : Nat) (Option.some Jvm.ClassFile.FieldType.int)) ∈ lw_all := lw_g (lw_at lw_m9 148 rfl) rfl
theorem q2201 : (Jvm.Cond.instanceMethod ({ cls := "TreePressModel", name := "at", desc := "(II)I" } : Jvm.MethodName)) ∈ lw_all := lw_g (lw_at lw_m9 150 rfl) rfl
theorem q2202 : (Jvm.Cond.selects "TreePressModel" ({ cls := "TreePressModel", name := "at", desc := "(II)I" } : Jvm.MethodName) ({ cls := "TreePressModel", name := "at", desc := "(II)I" } : Jvm.MethodName)) ∈ lw_all := lw_g (lw_at lw_m9 151 rfl) rfl
theorem q2203 : (Jvm.Cond.code ({ cls := "TreePressModel", name := "at", desc := "(II)I" } : Jvm.MethodName) prog_21_method_97_code (3 : Nat) (Option.some Jvm.ClassFile.FieldType.int)) ∈ lw_all := lw_g (lw_at lw_m9 152 rfl) rfl
theorem q2205 : (Jvm.Cond.instanceMethod ({ cls := "TreePressModel", name := "count", desc := "(I)I" } : Jvm.MethodName)) ∈ lw_all := lw_g (lw_at lw_m9 154 rfl) rfl
theorem q2206 : (Jvm.Cond.selects "TreePressModel" ({ cls := "TreePressModel", name := "count", desc := "(I)I" } : Jvm.MethodName) ({ cls := "TreePressModel", name := "count", desc := "(I)I" } : Jvm.MethodName)) ∈ lw_all := lw_g (lw_at lw_m9 155 rfl) rfl
theorem q2207 : (Jvm.Cond.code ({ cls := "TreePressModel", name := "count", desc := "(I)I" } : Jvm.MethodName) prog_21_method_98_code (2 : Nat) (Option.some Jvm.ClassFile.FieldType.int)) ∈ lw_all := lw_g (lw_at lw_m9 156 rfl) rfl
theorem q2224 : (Jvm.Cond.castable "TreePressModel" "java/lang/Object") ∈ lw_tbl := lw_at lw_m9 173 rfl
theorem in_X1 : ∀ w ∈ wsX10, w ∈ lw_all := lw_in wsX10 [1581, 1583, 1585, 1587, 1589, 1591, 1593, 1595, 1597, 1599, 1601, 1603, 1605, 1607, 1609, 1611, 1613, 1615, 1617, 1619, 1621, 1623, 1625, 1627, 1629, 1631, 1633, 1635, 1637, 1639, 1641, 1643, 1645, 1647, 1649, 1651, 1653, 1655, 1657, 1659, 1661, 1663, 1665, 1667, 1669, 1671, 1673, 1675, 1677, 1679, 1681, 1683, 1685, 1687, 1689, 1691, 1693, 1695, 1697, 1699, 1701, 1703, 1705, 1707, 1709, 1711, 1713, 1715, 1717, 1719, 1721, 1723, 1725, 1727, 1729, 1731, 1733, 1735, 1737, 1739, 1741, 1743, 1745, 1747, 1749, 1751, 1753, 1755, 1757, 1759, 1761, 1763, 1765, 1767, 1769, 1771, 1773, 1775, 1777, 1779, 1781, 1783] (by decide +kernel) (by decide +kernel)

