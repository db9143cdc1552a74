def m_AbstractCollection_init : xM := ("java/util/AbstractCollection", prog_44_method_1_code, 1, none, [], "<init>")
def m_AbstractList_init : xM := ("java/util/AbstractList", prog_45_method_1_code, 1, none, [], "<init>")
def m_Math_max : xM := ("java/lang/Math", prog_33_method_65_code, 2, (some .int), [], "max")
def m_ArraysSupport_newLength : xM := ("jdk/internal/util/ArraysSupport", prog_53_method_27_code, 4, (some .int), [], "newLength")
def m_AbstractStringBuilder_newCapacity : xM := ("java/lang/AbstractStringBuilder", prog_23_method_10_code, 6, (some .int), [], "newCapacity")
def m_Math_min : xM := ("java/lang/Math", prog_33_method_69_code, 2, (some .int), [], "min")
def m_Arrays_copyOf0 : xM := ("java/util/Arrays", prog_47_method_121_code, 3, (some (.array .byte)), [], "copyOf")
def m_AbstractStringBuilder_ensureCapacityInternal : xM := ("java/lang/AbstractStringBuilder", prog_23_method_9_code, 3, none, [], "ensureCapacityInternal")
def m_AbstractStringBuilder_isLatin1 : xM := ("java/lang/AbstractStringBuilder", prog_23_method_68_code, 1, (some .boolean), [], "isLatin1")
def m_StringLatin1_canEncode : xM := ("java/lang/StringLatin1", prog_39_method_3_code, 1, (some .boolean), [], "canEncode")
def m_AbstractStringBuilder_append0 : xM := ("java/lang/AbstractStringBuilder", prog_23_method_31_code, 2, (some (.object "java/lang/AbstractStringBuilder")), [], "append")
def m_Preconditions_checkIndex : xM := ("jdk/internal/util/Preconditions", prog_54_method_11_code, 3, (some .int), [], "checkIndex")
def m_String_checkIndex : xM := ("java/lang/String", prog_36_method_155_code, 2, none, [], "checkIndex")
def m_AbstractStringBuilder_charAt : xM := ("java/lang/AbstractStringBuilder", prog_23_method_14_code, 5, (some .char), [], "charAt")
def m_AbstractStringBuilder_getValue : xM := ("java/lang/AbstractStringBuilder", prog_23_method_64_code, 1, (some (.array .byte)), [], "getValue")
def m_AbstractStringBuilder_init : xM := ("java/lang/AbstractStringBuilder", prog_23_method_2_code, 2, none, [], "<init>")
def m_AbstractStringBuilder_length : xM := ("java/lang/AbstractStringBuilder", prog_23_method_6_code, 1, (some .int), [], "length")
def m_AbstractStringBuilder_setLength : xM := ("java/lang/AbstractStringBuilder", prog_23_method_13_code, 2, none, [], "setLength")
def m_Added_before : xM := ("PageScribe$Added", prog_2_method_6_code, 1, (some (.object "PageScribe$Change")), [], "before")
def m_Record_init : xM := ("java/lang/Record", prog_34_method_1_code, 1, none, [], "<init>")
def m_Added_init : xM := ("PageScribe$Added", prog_2_method_1_code, 3, none, [], "<init>")
def m_Entry_next : xM := ("PageScribe$Entry", prog_5_method_7_code, 1, (some (.object "PageScribe$Entry")), [], "next")
def m_Dict_drop : xM := ("PageScribe$Dict", prog_4_method_4_code, 1, none, [], "drop")
def m_Added_undo : xM := ("PageScribe$Added", prog_2_method_2_code, 1, none, [], "undo")
def m_ArrayList_add1 : xM := ("java/util/ArrayList", prog_46_method_24_code, 4, none, [], "add")
def m_ArrayList_add0 : xM := ("java/util/ArrayList", prog_46_method_25_code, 2, (some .boolean), [], "add")
def m_ArrayList_elementData : xM := ("java/util/ArrayList", prog_46_method_18_code, 2, (some (.object "java/lang/Object")), [], "elementData")
def m_ArrayList_fastRemove : xM := ("java/util/ArrayList", prog_46_method_39_code, 4, none, [], "fastRemove")
def m_Objects_checkIndex : xM := ("java/util/Objects", prog_50_method_17_code, 2, (some .int), [], "checkIndex")
def m_ArrayList_get : xM := ("java/util/ArrayList", prog_46_method_20_code, 2, (some (.object "java/lang/Object")), [], "get")
def m_ArrayList_init : xM := ("java/util/ArrayList", prog_46_method_1_code, 2, none, [], "<init>")
def m_ArrayList_remove : xM := ("java/util/ArrayList", prog_46_method_29_code, 4, (some (.object "java/lang/Object")), [], "remove")
def m_ArrayList_size : xM := ("java/util/ArrayList", prog_46_method_8_code, 1, (some .int), [], "size")
def m_Arrays_checkLength : xM := ("java/util/Arrays", prog_47_method_131_code, 2, none, [], "checkLength")
def m_Arrays_copyOfRangeByte : xM := ("java/util/Arrays", prog_47_method_133_code, 5, (some (.array .byte)), [], "copyOfRangeByte")
def m_Arrays_copyOfRange : xM := ("java/util/Arrays", prog_47_method_132_code, 3, (some (.array .byte)), [], "copyOfRange")
def m_Slot_init : xM := ("PageScribe$Slot", prog_16_method_1_code, 1, none, [], "<init>")
def m_Entry_init : xM := ("PageScribe$Entry", prog_5_method_1_code, 4, none, [], "<init>")
def m_Entry_value : xM := ("PageScribe$Entry", prog_5_method_6_code, 1, (some (.object "PageScribe$Slot")), [], "value")
def m_Dict_add : xM := ("PageScribe$Dict", prog_4_method_3_code, 2, (some (.object "PageScribe$Slot")), [], "add")
def m_Entry_key : xM := ("PageScribe$Entry", prog_5_method_5_code, 1, (some (.object "PageScribe$Name")), [], "key")
def m_Dict_find : xM := ("PageScribe$Dict", prog_4_method_2_code, 3, (some (.object "PageScribe$Slot")), [], "find")
def m_Dict_init : xM := ("PageScribe$Dict", prog_4_method_1_code, 3, none, [], "<init>")
def m_Group_init : xM := ("PageScribe$Group", prog_7_method_1_code, 1, none, [], "<init>")
def m_Flow_init : xM := ("PageScribe$Flow", prog_6_method_1_code, 1, none, [], "<init>")
def m_P_need : xM := ("PageScribe", prog_1_method_3_code, 3, none, [], "need")
def m_Slot_isProcedure : xM := ("PageScribe$Slot", prog_16_method_8_code, 1, (some .boolean), [], "isProcedure")
def m_P_enter : xM := ("PageScribe", prog_1_method_23_code, 3, none, [], "enter")
def m_P_call : xM := ("PageScribe", prog_1_method_27_code, 5, none, [], "call")
def m_P_execute : xM := ("PageScribe", prog_1_method_28_code, 3, none, [], "execute")
def m_Slot_is : xM := ("PageScribe$Slot", prog_16_method_6_code, 2, (some .boolean), [], "is")
def m_P_type : xM := ("PageScribe", prog_1_method_4_code, 2, none, [], "type")
def m_P_at : xM := ("PageScribe", prog_1_method_5_code, 2, (some (.object "PageScribe$Slot")), [], "at")
def m_P_fails : xM := ("PageScribe", prog_1_method_29_code, 8, (some .boolean), [(28, 34, 37, 167)], "fails")
def m_P_place : xM := ("PageScribe", prog_1_method_6_code, 2, (some (.object "PageScribe$Slot")), [], "place")
def m_Slot_set : xM := ("PageScribe$Slot", prog_16_method_2_code, 5, none, [], "set")
def m_P_give : xM := ("PageScribe", prog_1_method_8_code, 4, none, [], "give")
def m_P_truth : xM := ("PageScribe", prog_1_method_10_code, 3, none, [], "truth")
def m_Save_init : xM := ("PageScribe$Save", prog_15_method_1_code, 5, none, [], "<init>")
def m_P_save : xM := ("PageScribe", prog_1_method_20_code, 1, none, [], "save")
def m_Save_serial : xM := ("PageScribe$Save", prog_15_method_6_code, 1, (some .int), [], "serial")
def m_Save_isBefore : xM := ("PageScribe$Save", prog_15_method_2_code, 2, (some .boolean), [], "isBefore")
def m_Save_dicts : xM := ("PageScribe$Save", prog_15_method_8_code, 1, (some .int), [], "dicts")
def m_Save_cells : xM := ("PageScribe$Save", prog_15_method_7_code, 1, (some .int), [], "cells")
def m_Save_mark : xM := ("PageScribe$Save", prog_15_method_9_code, 1, (some (.object "PageScribe$Change")), [], "mark")
def m_Slot_copy : xM := ("PageScribe$Slot", prog_16_method_5_code, 2, none, [], "copy")
def m_Rewritten_undo : xM := ("PageScribe$Rewritten", prog_14_method_2_code, 1, none, [], "undo")
def m_Rewritten_before : xM := ("PageScribe$Rewritten", prog_14_method_6_code, 1, (some (.object "PageScribe$Change")), [], "before")
def m_P_restore : xM := ("PageScribe", prog_1_method_21_code, 5, none, [], "restore")
def m_Turn_init : xM := ("PageScribe$Turn", prog_19_method_1_code, 4, none, [], "<init>")
def m_P_step : xM := ("PageScribe", prog_1_method_22_code, 1, none, [], "step")
def m_P_push : xM := ("PageScribe", prog_1_method_7_code, 2, none, [], "push")
def m_Turn_go : xM := ("PageScribe$Turn", prog_19_method_2_code, 3, none, [], "go")
def m_Flow_stretch : xM := ("PageScribe$Flow", prog_6_method_4_code, 11, none, [], "stretch")
def m_Flow_turns : xM := ("PageScribe$Flow", prog_6_method_3_code, 10, none, [], "turns")
def m_Flow_perform : xM := ("PageScribe$Flow", prog_6_method_2_code, 8, none, [], "perform")
def m_P_giveDict : xM := ("PageScribe", prog_1_method_9_code, 3, none, [], "giveDict")
def m_Rewritten_init : xM := ("PageScribe$Rewritten", prog_14_method_1_code, 5, none, [], "<init>")
def m_P_rewrite : xM := ("PageScribe", prog_1_method_17_code, 4, none, [], "rewrite")
def m_P_define : xM := ("PageScribe", prog_1_method_18_code, 5, none, [], "define")
def m_P_find : xM := ("PageScribe", prog_1_method_19_code, 4, (some (.object "PageScribe$Slot")), [], "find")
def m_P_found : xM := ("PageScribe", prog_1_method_13_code, 3, none, [], "found")
def m_Holders_dicts : xM := ("PageScribe$Holders", prog_8_method_6_code, 5, none, [], "dicts")
def m_Holders_get : xM := ("PageScribe$Holders", prog_8_method_3_code, 4, none, [], "get")
def m_Holders_init : xM := ("PageScribe$Holders", prog_8_method_1_code, 1, none, [], "<init>")
def m_P_take : xM := ("PageScribe", prog_1_method_16_code, 3, (some .int), [], "take")
def m_Holders_put : xM := ("PageScribe$Holders", prog_8_method_4_code, 5, none, [], "put")
def m_Holders_spread : xM := ("PageScribe$Holders", prog_8_method_5_code, 6, none, [], "spread")
def m_Holders_perform : xM := ("PageScribe$Holders", prog_8_method_2_code, 8, none, [], "perform")
def m_Math_floorMod : xM := ("java/lang/Math", prog_33_method_50_code, 3, (some .int), [], "floorMod")
def m_Name_init : xM := ("PageScribe$Name", prog_10_method_1_code, 4, none, [], "<init>")
def m_StringBuilder_length : xM := ("java/lang/StringBuilder", prog_37_method_93_code, 1, (some .int), [], "length")
def m_String_coder : xM := ("java/lang/String", prog_36_method_152_code, 1, (some .byte), [], "coder")
def m_String_length : xM := ("java/lang/String", prog_36_method_54_code, 1, (some .int), [], "length")
def m_StringBuilder_charAt : xM := ("java/lang/StringBuilder", prog_37_method_88_code, 2, (some .char), [], "charAt")
def m_String_isLatin1 : xM := ("java/lang/String", prog_36_method_154_code, 1, (some .boolean), [], "isLatin1")
def m_StringLatin1_charAt : xM := ("java/lang/StringLatin1", prog_39_method_2_code, 2, (some .char), [], "charAt")
def m_String_charAt : xM := ("java/lang/String", prog_36_method_56_code, 2, (some .char), [], "charAt")
def m_Name_is : xM := ("PageScribe$Name", prog_10_method_2_code, 4, (some .boolean), [], "is")
def m_Name_next : xM := ("PageScribe$Name", prog_10_method_8_code, 1, (some (.object "PageScribe$Name")), [], "next")
def m_Name_op : xM := ("PageScribe$Name", prog_10_method_7_code, 1, (some (.object "PageScribe$Op")), [], "op")
def m_Name_text : xM := ("PageScribe$Name", prog_10_method_6_code, 1, (some (.object "java/lang/String")), [], "text")
def m_Numbers_exact : xM := ("PageScribe$Numbers", prog_11_method_3_code, 5, (some .long), [], "exact")
def m_Numbers_init : xM := ("PageScribe$Numbers", prog_11_method_1_code, 1, none, [], "<init>")
def m_Slot_isNumber : xM := ("PageScribe$Slot", prog_16_method_7_code, 1, (some .boolean), [], "isNumber")
def m_Slot_value : xM := ("PageScribe$Slot", prog_16_method_9_code, 1, (some .double), [], "value")
def m_Slot_makeReal : xM := ("PageScribe$Slot", prog_16_method_3_code, 3, none, [], "makeReal")
def m_P_giveReal : xM := ("PageScribe", prog_1_method_11_code, 4, none, [], "giveReal")
def m_P_whole : xM := ("PageScribe", prog_1_method_12_code, 4, none, [], "whole")
def m_Numbers_worked : xM := ("PageScribe$Numbers", prog_11_method_4_code, 9, (some .double), [], "worked")
def m_Numbers_perform : xM := ("PageScribe$Numbers", prog_11_method_2_code, 8, none, [], "perform")
def m_P_swap : xM := ("PageScribe", prog_1_method_14_code, 4, none, [], "swap")
def m_P_about : xM := ("PageScribe", prog_1_method_15_code, 5, none, [], "about")
def m_P_here : xM := ("PageScribe", prog_1_method_30_code, 1, (some .char), [], "here")
def m_P_blanks : xM := ("PageScribe", prog_1_method_34_code, 1, none, [], "blanks")
def m_P_bucket : xM := ("PageScribe", prog_1_method_2_code, 3, (some .int), [], "bucket")
def m_P_depth : xM := ("PageScribe", prog_1_method_51_code, 1, (some .int), [], "depth")
def m_P_isDigit : xM := ("PageScribe", prog_1_method_32_code, 1, (some .boolean), [], "isDigit")
def m_P_next : xM := ("PageScribe", prog_1_method_31_code, 1, (some .char), [], "next")
def m_P_digits : xM := ("PageScribe", prog_1_method_39_code, 4, (some .int), [], "digits")
def m_P_drafts : xM := ("PageScribe", prog_1_method_36_code, 1, (some (.object "PageScribe$Slot")), [], "drafts")
def m_P_point : xM := ("PageScribe", prog_1_method_42_code, 6, none, [], "point")
def m_P_pass : xM := ("PageScribe", prog_1_method_43_code, 5, none, [], "pass")
def m_P_isInside : xM := ("PageScribe", prog_1_method_44_code, 14, (some .boolean), [], "isInside")
def m_P_paint : xM := ("PageScribe", prog_1_method_45_code, 5, none, [], "paint")
def m_Paint_perform : xM := ("PageScribe$Paint", prog_13_method_2_code, 11, none, [], "perform")
def m_Stacks_copy : xM := ("PageScribe$Stacks", prog_17_method_3_code, 4, none, [], "copy")
def m_Stacks_roll : xM := ("PageScribe$Stacks", prog_17_method_4_code, 5, none, [], "roll")
def m_Stacks_marked : xM := ("PageScribe$Stacks", prog_17_method_5_code, 2, (some .int), [], "marked")
def m_Stacks_close : xM := ("PageScribe$Stacks", prog_17_method_6_code, 5, none, [], "close")
def m_Stacks_perform : xM := ("PageScribe$Stacks", prog_17_method_2_code, 6, none, [], "perform")
def m_Slot_same : xM := ("PageScribe$Slot", prog_16_method_10_code, 2, (some .boolean), [], "same")
def m_Truths_bits : xM := ("PageScribe$Truths", prog_18_method_3_code, 1, (some .boolean), [], "bits")
def m_Truths_compares : xM := ("PageScribe$Truths", prog_18_method_4_code, 5, (some .boolean), [], "compares")
def m_Truths_perform : xM := ("PageScribe$Truths", prog_18_method_2_code, 6, none, [], "perform")
def m_P_operate : xM := ("PageScribe", prog_1_method_26_code, 4, none, [], "operate")
def m_P_lookUp : xM := ("PageScribe", prog_1_method_25_code, 4, none, [], "lookUp")
def m_P_element : xM := ("PageScribe", prog_1_method_24_code, 3, none, [], "element")
def m_P_fault : xM := ("PageScribe", prog_1_method_49_code, 1, (some .int), [], "fault")
def m_P_feed : xM := ("PageScribe", prog_1_method_50_code, 4, (some .boolean), [], "feed")
def m_Stacks_init : xM := ("PageScribe$Stacks", prog_17_method_1_code, 1, none, [], "<init>")
def m_Truths_init : xM := ("PageScribe$Truths", prog_18_method_1_code, 1, none, [], "<init>")
def m_Paint_init : xM := ("PageScribe$Paint", prog_13_method_1_code, 1, none, [], "<init>")
def m_StringBuilder_init1 : xM := ("java/lang/StringBuilder", prog_37_method_2_code, 2, none, [], "<init>")
def m_P_init : xM := ("PageScribe", prog_1_method_1_code, 8, none, [], "<init>")
def m_P_isLetter : xM := ("PageScribe", prog_1_method_33_code, 1, (some .boolean), [], "isLetter")
def m_P_seen : xM := ("PageScribe", prog_1_method_52_code, 2, (some (.object "PageScribe$Slot")), [], "seen")
def m_P_kind : xM := ("PageScribe", prog_1_method_53_code, 2, (some .int), [], "kind")
def m_String_init0 : xM := ("java/lang/String", prog_36_method_150_code, 5, none, [], "<init>")
def m_String_init1 : xM := ("java/lang/String", prog_36_method_53_code, 2, none, [], "<init>")
def m_StringBuilder_toString : xM := ("java/lang/StringBuilder", prog_37_method_42_code, 1, (some (.object "java/lang/String")), [], "toString")
def m_P_known : xM := ("PageScribe", prog_1_method_41_code, 4, (some (.object "PageScribe$Name")), [], "known")
def m_P_letter : xM := ("PageScribe", prog_1_method_56_code, 4, (some .int), [], "letter")
def m_P_number : xM := ("PageScribe", prog_1_method_54_code, 3, (some .int), [], "number")
def m_P_numeral : xM := ("PageScribe", prog_1_method_40_code, 11, none, [], "numeral")
def m_P_page : xM := ("PageScribe", prog_1_method_59_code, 4, (some .int), [], "page")
def m_P_pixel : xM := ("PageScribe", prog_1_method_58_code, 3, (some .int), [], "pixel")
def m_P_procedure : xM := ("PageScribe", prog_1_method_38_code, 6, (some (.object "PageScribe$Slot")), [], "procedure")
def m_StringBuilder_setLength : xM := ("java/lang/StringBuilder", prog_37_method_89_code, 2, none, [], "setLength")
def m_StringBuilder_append0 : xM := ("java/lang/StringBuilder", prog_37_method_14_code, 2, (some (.object "java/lang/StringBuilder")), [], "append")
def m_Slot_named : xM := ("PageScribe$Slot", prog_16_method_4_code, 3, none, [], "named")
def m_P_token : xM := ("PageScribe", prog_1_method_37_code, 4, (some (.object "PageScribe$Slot")), [], "token")
def m_P_read : xM := ("PageScribe", prog_1_method_35_code, 1, none, [], "read")
def m_P_real : xM := ("PageScribe", prog_1_method_55_code, 3, (some .double), [], "real")
def m_P_run : xM := ("PageScribe", prog_1_method_47_code, 4, (some .int), [(62, 66, 69, 167)], "run")
def m_P_steps : xM := ("PageScribe", prog_1_method_48_code, 1, (some .int), [], "steps")
def m_P_used : xM := ("PageScribe", prog_1_method_57_code, 2, (some .int), [], "used")
def m_P_write : xM := ("PageScribe", prog_1_method_46_code, 7, (some .boolean), [], "write")
def m_W_cell : xM := ("PageScribeLaw", method_2_code, 2, (some .int), [], "cell")
def m_W_kind : xM := ("PageScribeLaw", method_4_code, 4, (some .int), [(0, 9, 12, 18)], "kind")
def m_W_number : xM := ("PageScribeLaw", method_5_code, 4, (some .int), [(0, 9, 12, 18), (0, 9, 15, 23)], "number")
def m_W_real : xM := ("PageScribeLaw", method_6_code, 4, (some .int), [(0, 8, 11, 18), (0, 8, 14, 23)], "real")
def m_W_run : xM := ("PageScribeLaw", method_3_code, 4, (some .int), [(0, 9, 12, 13)], "run")
def m_Enum_ordinal : xM := ("java/lang/Enum", prog_26_method_2_code, 1, (some .int), [], "ordinal")
def xlst : Cond → Bool
  | .laysStatic _ _ _ => true
  | _ => false
theorem xlst_s {w : Cond} (h : xlst w = true) : ∃ C n d, w = .laysStatic C n d := by
  unfold xlst at h
  split at h
  · exact ⟨_, _, _, rfl⟩
  · cases h
theorem xex_of {own : String} {ic c : Nat} {names : List String} (q : vw_C) (h1 : xCl[c]? = some q) (h2 : q.2.2 = 0) (h3 : Bundle.fit q.1 = true) (h4 : names.all Bundle.fit = true) (h5 : (Bundle.ownAtoms0 own ic q.1 names).all (fun w => (decide (w ∈ lw_tbl) && xGood w) || decide (w = .isRef (.static "java/lang/Throwable" "UNASSIGNED_STACK" "[Ljava/lang/StackTraceElement;")) || decide (w = .isRef (.static "java/lang/Throwable" "SUPPRESSED_SENTINEL" "Ljava/util/List;")) || (decide (w ∈ lw_tbl) && xlst w)) = true) : xEx own ic c names := by
  refine ⟨q, h1, h2, h3, fun n hn => List.all_eq_true.mp h4 n hn, fun w hw => ?_⟩
  have := List.all_eq_true.mp h5 w hw
  rw [Bool.or_eq_true, Bool.or_eq_true, Bool.or_eq_true, Bool.and_eq_true, Bool.and_eq_true] at this
  rcases this with ((h | h) | h) | h
  · exact Or.inl ⟨of_decide_eq_true h.1, h.2⟩
  · exact Or.inr (Or.inl (of_decide_eq_true h))
  · exact Or.inr (Or.inr (Or.inl (of_decide_eq_true h)))
  · exact Or.inr (Or.inr (Or.inr ⟨of_decide_eq_true h.1, xlst_s h.2⟩))
theorem oi_1 : Cond.instanceMethod Lib.objectInit ∈ lw_tbl := tw_1 (List.mem_of_getElem? (i := 52) rfl)
theorem oi_2 : Cond.code Lib.objectInit ⟨#[0xb1]⟩ 1 none ∈ lw_tbl := tw_1 (List.mem_of_getElem? (i := 53) rfl)
theorem ac_int : Cond.arrayClass .int ∈ lw_tbl := tw_3 (List.mem_of_getElem? (i := 27) rfl)
theorem ac_byte : Cond.arrayClass .byte ∈ lw_tbl := tw_1 (List.mem_of_getElem? (i := 135) rfl)
theorem ac_double : Cond.arrayClass .double ∈ lw_tbl := tw_3 (List.mem_of_getElem? (i := 28) rfl)
theorem ac_long : Cond.arrayClass .long ∈ lw_tbl := tw_8 (List.mem_of_getElem? (i := 181) rfl)
theorem ac_char : Cond.arrayClass .char ∈ lw_tbl := tw_8 (List.mem_of_getElem? (i := 182) rfl)
theorem ci_AbstractList_1 : xCi "java/util/AbstractList" 1 ⟨"java/util/AbstractCollection", "<init>", "()V"⟩ 0 := ⟨rfl, ⟨by decide +kernel, by decide +kernel⟩, xpar_of (by decide +kernel), tw_1 (List.mem_of_getElem? (i := 147) rfl), Or.inl (tw_1 (List.mem_of_getElem? (i := 146) rfl))⟩
theorem y_AbstractCollection_init : xY ⟨"java/util/AbstractCollection", "<init>", "()V"⟩ m_AbstractCollection_init := ⟨rfl, rfl, by decide +kernel, Or.inl ⟨rfl, tw_1 (List.mem_of_getElem? (i := 148) rfl)⟩⟩
theorem l_AbstractList_7 : xFl "java/util/AbstractList" 7 17 2 := ⟨_, rfl, by decide, _, Or.inl rfl, Or.inl (tw_2 (List.mem_of_getElem? (i := 203) rfl))⟩
theorem fp_17_2 : xFp 17 2 false := ⟨_, rfl, by decide, tw_2 (List.mem_of_getElem? (i := 210) rfl), by rfl, rfl⟩
theorem cs_ArraysSupport_194 : xCt "jdk/internal/util/ArraysSupport" 194 ⟨"java/lang/Math", "max", "(II)I"⟩ 2 := ⟨⟨by decide +kernel, by decide +kernel⟩, xpar_of (by decide +kernel), tw_1 (List.mem_of_getElem? (i := 226) rfl), tw_1 (List.mem_of_getElem? (i := 21) rfl), Or.inl (tw_1 (List.mem_of_getElem? (i := 225) rfl))⟩
theorem y_Math_max : xY ⟨"java/lang/Math", "max", "(II)I"⟩ m_Math_max := ⟨rfl, rfl, by decide +kernel, Or.inl ⟨rfl, tw_1 (List.mem_of_getElem? (i := 227) rfl)⟩⟩
theorem c_ArraysSupport_200 : Jvm.Cond.constant "jdk/internal/util/ArraysSupport" 200 2147483639 ∈ lw_tbl := tw_1 (List.mem_of_getElem? (i := 228) rfl)
theorem l_AbstractStringBuilder_15 : xFl "java/lang/AbstractStringBuilder" 15 16 0 := ⟨_, rfl, by decide, _, Or.inl rfl, Or.inl (tw_1 (List.mem_of_getElem? (i := 121) rfl))⟩
theorem l_AbstractStringBuilder_22 : xFl "java/lang/AbstractStringBuilder" 22 16 1 := ⟨_, rfl, by decide, _, Or.inl rfl, Or.inl (tw_1 (List.mem_of_getElem? (i := 122) rfl))⟩
theorem cs_AbstractStringBuilder_114 : xCt "java/lang/AbstractStringBuilder" 114 ⟨"jdk/internal/util/ArraysSupport", "newLength", "(III)I"⟩ 3 := ⟨⟨by decide +kernel, by decide +kernel⟩, xpar_of (by decide +kernel), tw_1 (List.mem_of_getElem? (i := 223) rfl), tw_1 (List.mem_of_getElem? (i := 20) rfl), Or.inl (tw_1 (List.mem_of_getElem? (i := 222) rfl))⟩
theorem y_ArraysSupport_newLength : xY ⟨"jdk/internal/util/ArraysSupport", "newLength", "(III)I"⟩ m_ArraysSupport_newLength := ⟨rfl, rfl, by decide +kernel, Or.inl ⟨rfl, tw_1 (List.mem_of_getElem? (i := 224) rfl)⟩⟩
theorem c_AbstractStringBuilder_39 : Jvm.Cond.constant "java/lang/AbstractStringBuilder" 39 2147483647 ∈ lw_tbl := tw_1 (List.mem_of_getElem? (i := 232) rfl)
theorem cs_Arrays_304 : xCt "java/util/Arrays" 304 ⟨"java/lang/Math", "min", "(II)I"⟩ 2 := ⟨⟨by decide +kernel, by decide +kernel⟩, xpar_of (by decide +kernel), tw_2 (List.mem_of_getElem? (i := 4) rfl), tw_1 (List.mem_of_getElem? (i := 21) rfl), Or.inl (tw_2 (List.mem_of_getElem? (i := 3) rfl))⟩
theorem y_Math_min : xY ⟨"java/lang/Math", "min", "(II)I"⟩ m_Math_min := ⟨rfl, rfl, by decide +kernel, Or.inl ⟨rfl, tw_2 (List.mem_of_getElem? (i := 5) rfl)⟩⟩
theorem ac9_Arrays_150 : Cond.methodLink "java/util/Arrays" 150 arraycopyName ∈ lw_tbl := tw_2 (List.mem_of_getElem? (i := 6) rfl)
theorem cp_AbstractStringBuilder_104 : xCp "java/lang/AbstractStringBuilder" 104 ⟨"java/lang/AbstractStringBuilder", "newCapacity", "(I)I"⟩ 1 := ⟨⟨by decide +kernel, by decide +kernel⟩, xpar_of (by decide +kernel), tw_1 (List.mem_of_getElem? (i := 220) rfl), tw_1 (List.mem_of_getElem? (i := 219) rfl), tw_10 (List.mem_of_getElem? (i := 65) rfl), tw_1 (List.mem_of_getElem? (i := 218) rfl)⟩
theorem y_AbstractStringBuilder_newCapacity : xY ⟨"java/lang/AbstractStringBuilder", "newCapacity", "(I)I"⟩ m_AbstractStringBuilder_newCapacity := ⟨rfl, rfl, by decide +kernel, Or.inl ⟨rfl, tw_1 (List.mem_of_getElem? (i := 221) rfl)⟩⟩
theorem cs_AbstractStringBuilder_108 : xCt "java/lang/AbstractStringBuilder" 108 ⟨"java/util/Arrays", "copyOf", "([BI)[B"⟩ 2 := ⟨⟨by decide +kernel, by decide +kernel⟩, xpar_of (by decide +kernel), tw_1 (List.mem_of_getElem? (i := 234) rfl), tw_1 (List.mem_of_getElem? (i := 22) rfl), Or.inl (tw_1 (List.mem_of_getElem? (i := 233) rfl))⟩
theorem y_Arrays_copyOf0 : xY ⟨"java/util/Arrays", "copyOf", "([BI)[B"⟩ m_Arrays_copyOf0 := ⟨rfl, rfl, by decide +kernel, Or.inl ⟨rfl, tw_1 (List.mem_of_getElem? (i := 235) rfl)⟩⟩
theorem fp_16_0 : xFp 16 0 false := ⟨_, rfl, by decide, tw_1 (List.mem_of_getElem? (i := 126) rfl), by rfl, rfl⟩
theorem sl_AbstractStringBuilder_18 : xSl "java/lang/AbstractStringBuilder" 18 (vI 1) := ⟨_, List.mem_of_getElem? (i := 81) rfl, rfl, Or.inl (tw_1 (List.mem_of_getElem? (i := 112) rfl))⟩
theorem l_AbstractStringBuilder_79 : xFl "java/lang/AbstractStringBuilder" 79 16 3 := ⟨_, rfl, by decide, _, Or.inl rfl, Or.inl (tw_1 (List.mem_of_getElem? (i := 125) rfl))⟩
theorem cp_AbstractStringBuilder_100 : xCp "java/lang/AbstractStringBuilder" 100 ⟨"java/lang/AbstractStringBuilder", "ensureCapacityInternal", "(I)V"⟩ 1 := ⟨⟨by decide +kernel, by decide +kernel⟩, xpar_of (by decide +kernel), tw_1 (List.mem_of_getElem? (i := 216) rfl), tw_1 (List.mem_of_getElem? (i := 215) rfl), tw_10 (List.mem_of_getElem? (i := 64) rfl), tw_1 (List.mem_of_getElem? (i := 214) rfl)⟩
theorem y_AbstractStringBuilder_ensureCapacityInternal : xY ⟨"java/lang/AbstractStringBuilder", "ensureCapacityInternal", "(I)V"⟩ m_AbstractStringBuilder_ensureCapacityInternal := ⟨rfl, rfl, by decide +kernel, Or.inl ⟨rfl, tw_1 (List.mem_of_getElem? (i := 217) rfl)⟩⟩
theorem cv_AbstractStringBuilder_83 : xCv "java/lang/AbstractStringBuilder" 83 16 ⟨"java/lang/AbstractStringBuilder", "isLatin1", "()Z"⟩ 0 := ⟨⟨by decide +kernel, by decide +kernel⟩, xpar_of (by decide +kernel), tw_2 (List.mem_of_getElem? (i := 10) rfl), ⟨_, rfl, tw_2 (List.mem_of_getElem? (i := 12) rfl)⟩, Or.inl (tw_2 (List.mem_of_getElem? (i := 9) rfl))⟩
theorem y_AbstractStringBuilder_isLatin1 : xY ⟨"java/lang/AbstractStringBuilder", "isLatin1", "()Z"⟩ m_AbstractStringBuilder_isLatin1 := ⟨rfl, rfl, by decide +kernel, Or.inl ⟨rfl, tw_2 (List.mem_of_getElem? (i := 13) rfl)⟩⟩
theorem cs_AbstractStringBuilder_191 : xCt "java/lang/AbstractStringBuilder" 191 ⟨"java/lang/StringLatin1", "canEncode", "(C)Z"⟩ 1 := ⟨⟨by decide +kernel, by decide +kernel⟩, xpar_of (by decide +kernel), tw_4 (List.mem_of_getElem? (i := 38) rfl), tw_1 (List.mem_of_getElem? (i := 25) rfl), Or.inl (tw_4 (List.mem_of_getElem? (i := 37) rfl))⟩
theorem y_StringLatin1_canEncode : xY ⟨"java/lang/StringLatin1", "canEncode", "(C)Z"⟩ m_StringLatin1_canEncode := ⟨rfl, rfl, by decide +kernel, Or.inl ⟨rfl, tw_4 (List.mem_of_getElem? (i := 39) rfl)⟩⟩
theorem fp_16_3 : xFp 16 3 false := ⟨_, rfl, by decide, tw_1 (List.mem_of_getElem? (i := 132) rfl), by rfl, rfl⟩
theorem cs_AbstractStringBuilder_138 : xCt "java/lang/AbstractStringBuilder" 138 ⟨"java/lang/Math", "min", "(II)I"⟩ 2 := ⟨⟨by decide +kernel, by decide +kernel⟩, xpar_of (by decide +kernel), tw_2 (List.mem_of_getElem? (i := 4) rfl), tw_1 (List.mem_of_getElem? (i := 21) rfl), Or.inl (tw_5 (List.mem_of_getElem? (i := 50) rfl))⟩
theorem cs_AbstractStringBuilder_144 : xCt "java/lang/AbstractStringBuilder" 144 ⟨"java/lang/String", "checkIndex", "(II)V"⟩ 2 := ⟨⟨by decide +kernel, by decide +kernel⟩, xpar_of (by decide +kernel), tw_2 (List.mem_of_getElem? (i := 233) rfl), tw_1 (List.mem_of_getElem? (i := 11) rfl), Or.inl (tw_5 (List.mem_of_getElem? (i := 51) rfl))⟩
theorem y_String_checkIndex : xY ⟨"java/lang/String", "checkIndex", "(II)V"⟩ m_String_checkIndex := ⟨rfl, rfl, by decide +kernel, Or.inl ⟨rfl, tw_2 (List.mem_of_getElem? (i := 234) rfl)⟩⟩
theorem fp_16_1 : xFp 16 1 false := ⟨_, rfl, by decide, tw_1 (List.mem_of_getElem? (i := 128) rfl), by rfl, rfl⟩
theorem l_AbstractStringBuilder_73 : xFl "java/lang/AbstractStringBuilder" 73 16 2 := ⟨_, rfl, by decide, _, Or.inl rfl, Or.inl (tw_1 (List.mem_of_getElem? (i := 123) rfl))⟩
theorem fp_16_2 : xFp 16 2 false := ⟨_, rfl, by decide, tw_1 (List.mem_of_getElem? (i := 130) rfl), by rfl, rfl⟩
theorem l_Added_7 : xFl "PageScribe$Added" 7 9 0 := ⟨_, rfl, by decide, _, Or.inl rfl, Or.inl (tw_6 (List.mem_of_getElem? (i := 189) rfl))⟩
theorem ci_Added_1 : xCi "PageScribe$Added" 1 ⟨"java/lang/Record", "<init>", "()V"⟩ 0 := ⟨rfl, ⟨by decide +kernel, by decide +kernel⟩, xpar_of (by decide +kernel), tw_3 (List.mem_of_getElem? (i := 14) rfl), Or.inl (tw_6 (List.mem_of_getElem? (i := 188) rfl))⟩
theorem y_Record_init : xY ⟨"java/lang/Record", "<init>", "()V"⟩ m_Record_init := ⟨rfl, rfl, by decide +kernel, Or.inl ⟨rfl, tw_3 (List.mem_of_getElem? (i := 15) rfl)⟩⟩
theorem fp_9_0 : xFp 9 0 true := ⟨_, rfl, by decide, tw_6 (List.mem_of_getElem? (i := 191) rfl), by rfl, rfl⟩
theorem fo_Added_7 : ∃ q : vw_C, xCl[9]? = some q ∧ (q.2.1 0).1 = "PageScribe$Added" ∧ Cond.fieldLink "PageScribe$Added" 7 "PageScribe$Added" (q.2.1 0).2.1 (q.2.1 0).2.2.1 ∈ lw_tbl := ⟨_, rfl, rfl, tw_6 (List.mem_of_getElem? (i := 189) rfl)⟩
theorem l_Added_13 : xFl "PageScribe$Added" 13 9 1 := ⟨_, rfl, by decide, _, Or.inl rfl, Or.inl (tw_6 (List.mem_of_getElem? (i := 190) rfl))⟩
theorem fp_9_1 : xFp 9 1 true := ⟨_, rfl, by decide, tw_6 (List.mem_of_getElem? (i := 193) rfl), by rfl, rfl⟩
theorem fo_Added_13 : ∃ q : vw_C, xCl[9]? = some q ∧ (q.2.1 1).1 = "PageScribe$Added" ∧ Cond.fieldLink "PageScribe$Added" 13 "PageScribe$Added" (q.2.1 1).2.1 (q.2.1 1).2.2.1 ∈ lw_tbl := ⟨_, rfl, rfl, tw_6 (List.mem_of_getElem? (i := 190) rfl)⟩
theorem l_Entry_17 : xFl "PageScribe$Entry" 17 5 2 := ⟨_, rfl, by decide, _, Or.inl rfl, Or.inl (tw_6 (List.mem_of_getElem? (i := 175) rfl))⟩
theorem l_Dict_16 : xFl "PageScribe$Dict" 16 4 3 := ⟨_, rfl, by decide, _, Or.inl rfl, Or.inl (tw_3 (List.mem_of_getElem? (i := 41) rfl))⟩
theorem cv_Dict_26 : xCv "PageScribe$Dict" 26 5 ⟨"PageScribe$Entry", "next", "()LPageScribe$Entry;"⟩ 0 := ⟨⟨by decide +kernel, by decide +kernel⟩, xpar_of (by decide +kernel), tw_5 (List.mem_of_getElem? (i := 143) rfl), ⟨_, rfl, tw_5 (List.mem_of_getElem? (i := 144) rfl)⟩, Or.inl (tw_5 (List.mem_of_getElem? (i := 142) rfl))⟩
theorem y_Entry_next : xY ⟨"PageScribe$Entry", "next", "()LPageScribe$Entry;"⟩ m_Entry_next := ⟨rfl, rfl, by decide +kernel, Or.inl ⟨rfl, tw_5 (List.mem_of_getElem? (i := 145) rfl)⟩⟩
theorem fp_4_3 : xFp 4 3 false := ⟨_, rfl, by decide, tw_3 (List.mem_of_getElem? (i := 48) rfl), by rfl, rfl⟩
theorem l_Dict_40 : xFl "PageScribe$Dict" 40 4 2 := ⟨_, rfl, by decide, _, Or.inl rfl, Or.inl (tw_3 (List.mem_of_getElem? (i := 39) rfl))⟩
theorem fp_4_2 : xFp 4 2 false := ⟨_, rfl, by decide, tw_3 (List.mem_of_getElem? (i := 46) rfl), by rfl, rfl⟩
theorem cv_Added_17 : xCv "PageScribe$Added" 17 4 ⟨"PageScribe$Dict", "drop", "()V"⟩ 0 := ⟨⟨by decide +kernel, by decide +kernel⟩, xpar_of (by decide +kernel), tw_6 (List.mem_of_getElem? (i := 38) rfl), ⟨_, rfl, tw_6 (List.mem_of_getElem? (i := 39) rfl)⟩, Or.inl (tw_6 (List.mem_of_getElem? (i := 37) rfl))⟩
theorem y_Dict_drop : xY ⟨"PageScribe$Dict", "drop", "()V"⟩ m_Dict_drop := ⟨rfl, rfl, by decide +kernel, Or.inl ⟨rfl, tw_6 (List.mem_of_getElem? (i := 40) rfl)⟩⟩
theorem l_ArrayList_48 : xFl "java/util/ArrayList" 48 17 1 := ⟨_, rfl, by decide, _, Or.inl rfl, Or.inl (tw_2 (List.mem_of_getElem? (i := 202) rfl))⟩
theorem fp_17_1 : xFp 17 1 false := ⟨_, rfl, by decide, tw_2 (List.mem_of_getElem? (i := 208) rfl), by rfl, rfl⟩
theorem l_ArrayList_63 : xFl "java/util/ArrayList" 63 17 2 := ⟨_, rfl, by decide, _, Or.inr (tw_2 (List.mem_of_getElem? (i := 205) rfl)), Or.inl (tw_2 (List.mem_of_getElem? (i := 204) rfl))⟩
theorem l_ArrayList_9 : xFl "java/util/ArrayList" 9 17 0 := ⟨_, rfl, by decide, _, Or.inl rfl, Or.inl (tw_2 (List.mem_of_getElem? (i := 201) rfl))⟩
theorem cv_ArrayList_131 : xCv "java/util/ArrayList" 131 17 ⟨"java/util/ArrayList", "add", "(Ljava/lang/Object;[Ljava/lang/Object;I)V"⟩ 3 := ⟨⟨by decide +kernel, by decide +kernel⟩, xpar_of (by decide +kernel), tw_3 (List.mem_of_getElem? (i := 57) rfl), ⟨_, rfl, List.mem_append_left _ (List.mem_of_getElem? (i := 1) (by decide +kernel))⟩, Or.inl (tw_3 (List.mem_of_getElem? (i := 55) rfl))⟩
theorem y_ArrayList_add1 : xY ⟨"java/util/ArrayList", "add", "(Ljava/lang/Object;[Ljava/lang/Object;I)V"⟩ m_ArrayList_add1 := ⟨rfl, rfl, by decide +kernel, Or.inl ⟨rfl, tw_3 (List.mem_of_getElem? (i := 58) rfl)⟩⟩
theorem ac9_ArrayList_112 : Cond.methodLink "java/util/ArrayList" 112 arraycopyName ∈ lw_tbl := tw_6 (List.mem_of_getElem? (i := 70) rfl)
theorem cs_Objects_105 : xCt "java/util/Objects" 105 ⟨"jdk/internal/util/Preconditions", "checkIndex", "(IILjava/util/function/BiFunction;)I"⟩ 3 := ⟨⟨by decide +kernel, by decide +kernel⟩, xpar_of (by decide +kernel), tw_2 (List.mem_of_getElem? (i := 236) rfl), tw_1 (List.mem_of_getElem? (i := 24) rfl), Or.inl (tw_3 (List.mem_of_getElem? (i := 117) rfl))⟩
theorem y_Preconditions_checkIndex : xY ⟨"jdk/internal/util/Preconditions", "checkIndex", "(IILjava/util/function/BiFunction;)I"⟩ m_Preconditions_checkIndex := ⟨rfl, rfl, by decide +kernel, Or.inl ⟨rfl, tw_2 (List.mem_of_getElem? (i := 237) rfl)⟩⟩
theorem cs_ArrayList_118 : xCt "java/util/ArrayList" 118 ⟨"java/util/Objects", "checkIndex", "(II)I"⟩ 2 := ⟨⟨by decide +kernel, by decide +kernel⟩, xpar_of (by decide +kernel), tw_3 (List.mem_of_getElem? (i := 115) rfl), tw_1 (List.mem_of_getElem? (i := 30) rfl), Or.inl (tw_3 (List.mem_of_getElem? (i := 114) rfl))⟩
theorem y_Objects_checkIndex : xY ⟨"java/util/Objects", "checkIndex", "(II)I"⟩ m_Objects_checkIndex := ⟨rfl, rfl, by decide +kernel, Or.inl ⟨rfl, tw_3 (List.mem_of_getElem? (i := 116) rfl)⟩⟩
theorem cv_ArrayList_123 : xCv "java/util/ArrayList" 123 17 ⟨"java/util/ArrayList", "elementData", "(I)Ljava/lang/Object;"⟩ 1 := ⟨⟨by decide +kernel, by decide +kernel⟩, xpar_of (by decide +kernel), tw_3 (List.mem_of_getElem? (i := 119) rfl), ⟨_, rfl, tw_3 (List.mem_of_getElem? (i := 120) rfl)⟩, Or.inl (tw_3 (List.mem_of_getElem? (i := 118) rfl))⟩
theorem y_ArrayList_elementData : xY ⟨"java/util/ArrayList", "elementData", "(I)Ljava/lang/Object;"⟩ m_ArrayList_elementData := ⟨rfl, rfl, by decide +kernel, Or.inl ⟨rfl, tw_3 (List.mem_of_getElem? (i := 121) rfl)⟩⟩
theorem ci_ArrayList_1 : xCi "java/util/ArrayList" 1 ⟨"java/util/AbstractList", "<init>", "()V"⟩ 0 := ⟨rfl, ⟨by decide +kernel, by decide +kernel⟩, xpar_of (by decide +kernel), tw_1 (List.mem_of_getElem? (i := 144) rfl), Or.inl (tw_1 (List.mem_of_getElem? (i := 143) rfl))⟩
theorem y_AbstractList_init : xY ⟨"java/util/AbstractList", "<init>", "()V"⟩ m_AbstractList_init := ⟨rfl, rfl, by decide +kernel, Or.inl ⟨rfl, tw_1 (List.mem_of_getElem? (i := 145) rfl)⟩⟩
theorem kl_ArrayList_7 : Cond.classLink "java/util/ArrayList" 7 "java/lang/Object" ∈ lw_tbl := tw_1 (List.mem_of_getElem? (i := 150) rfl)
theorem ao_Object : Cond.arrayOver (.object "java/lang/Object") ∈ lw_tbl := tw_1 (List.mem_of_getElem? (i := 151) rfl)
theorem fp_17_0 : xFp 17 0 false := ⟨_, rfl, by decide, tw_2 (List.mem_of_getElem? (i := 206) rfl), by rfl, rfl⟩
theorem nw_ArrayList_18 : xNw "java/util/ArrayList" 18 22 6 := ⟨_, rfl, tw_1 (List.mem_of_getElem? (i := 154) rfl), tw_1 (List.mem_of_getElem? (i := 155) rfl), tw_1 (List.mem_of_getElem? (i := 19) rfl)⟩
theorem ly_22 : xLy 22 := ⟨_, rfl, fun k h => absurd h (Nat.not_lt_zero k)⟩
theorem nw_ArrayList_20 : xNw "java/util/ArrayList" 20 16 4 := ⟨_, rfl, tw_1 (List.mem_of_getElem? (i := 198) rfl), tw_1 (List.mem_of_getElem? (i := 104) rfl), tw_1 (List.mem_of_getElem? (i := 10) rfl)⟩
theorem ly_16 : xLy 16 := ⟨_, rfl, fun k h => match k, h with | 0, _ => ⟨tw_1 (List.mem_of_getElem? (i := 126) rfl), rfl⟩ | 1, _ => ⟨tw_1 (List.mem_of_getElem? (i := 128) rfl), rfl⟩ | 2, _ => ⟨tw_1 (List.mem_of_getElem? (i := 130) rfl), rfl⟩ | 3, _ => ⟨tw_1 (List.mem_of_getElem? (i := 132) rfl), rfl⟩ | k + 4, h => absurd h (by show ¬ k + 4 < 4; omega)⟩
theorem cv_ArrayList_144 : xCv "java/util/ArrayList" 144 17 ⟨"java/util/ArrayList", "fastRemove", "([Ljava/lang/Object;I)V"⟩ 2 := ⟨⟨by decide +kernel, by decide +kernel⟩, xpar_of (by decide +kernel), tw_6 (List.mem_of_getElem? (i := 68) rfl), ⟨_, rfl, List.mem_append_left _ (List.mem_of_getElem? (i := 32) (by decide +kernel))⟩, Or.inl (tw_6 (List.mem_of_getElem? (i := 66) rfl))⟩
theorem y_ArrayList_fastRemove : xY ⟨"java/util/ArrayList", "fastRemove", "([Ljava/lang/Object;I)V"⟩ m_ArrayList_fastRemove := ⟨rfl, rfl, by decide +kernel, Or.inl ⟨rfl, tw_6 (List.mem_of_getElem? (i := 69) rfl)⟩⟩
theorem nw_Arrays_43 : xNw "java/util/Arrays" 43 22 6 := ⟨_, rfl, tw_2 (List.mem_of_getElem? (i := 144) rfl), tw_1 (List.mem_of_getElem? (i := 155) rfl), tw_1 (List.mem_of_getElem? (i := 19) rfl)⟩
theorem nw_Arrays_45 : xNw "java/util/Arrays" 45 16 4 := ⟨_, rfl, tw_2 (List.mem_of_getElem? (i := 145) rfl), tw_1 (List.mem_of_getElem? (i := 104) rfl), tw_1 (List.mem_of_getElem? (i := 10) rfl)⟩
theorem cs_Arrays_343 : xCt "java/util/Arrays" 343 ⟨"java/util/Arrays", "checkLength", "(II)V"⟩ 2 := ⟨⟨by decide +kernel, by decide +kernel⟩, xpar_of (by decide +kernel), tw_2 (List.mem_of_getElem? (i := 142) rfl), tw_1 (List.mem_of_getElem? (i := 22) rfl), Or.inl (tw_2 (List.mem_of_getElem? (i := 141) rfl))⟩
theorem y_Arrays_checkLength : xY ⟨"java/util/Arrays", "checkLength", "(II)V"⟩ m_Arrays_checkLength := ⟨rfl, rfl, by decide +kernel, Or.inl ⟨rfl, tw_2 (List.mem_of_getElem? (i := 143) rfl)⟩⟩
theorem cs_Arrays_339 : xCt "java/util/Arrays" 339 ⟨"java/util/Arrays", "copyOfRangeByte", "([BII)[B"⟩ 3 := ⟨⟨by decide +kernel, by decide +kernel⟩, xpar_of (by decide +kernel), tw_2 (List.mem_of_getElem? (i := 139) rfl), tw_1 (List.mem_of_getElem? (i := 22) rfl), Or.inl (tw_2 (List.mem_of_getElem? (i := 138) rfl))⟩
theorem y_Arrays_copyOfRangeByte : xY ⟨"java/util/Arrays", "copyOfRangeByte", "([BII)[B"⟩ m_Arrays_copyOfRangeByte := ⟨rfl, rfl, by decide +kernel, Or.inl ⟨rfl, tw_2 (List.mem_of_getElem? (i := 140) rfl)⟩⟩
theorem sl_Slot_7 : xSl "PageScribe$Slot" 7 (vA 72) := ⟨_, List.mem_of_getElem? (i := 72) rfl, rfl, Or.inl (tw_4 (List.mem_of_getElem? (i := 159) rfl))⟩
theorem l_Slot_13 : xFl "PageScribe$Slot" 13 2 0 := ⟨_, rfl, by decide, _, Or.inl rfl, Or.inl (tw_4 (List.mem_of_getElem? (i := 161) rfl))⟩
theorem fp_2_0 : xFp 2 0 false := ⟨_, rfl, by decide, tw_4 (List.mem_of_getElem? (i := 190) rfl), by rfl, rfl⟩
theorem ci_Entry_1 : xCi "PageScribe$Entry" 1 ⟨"java/lang/Record", "<init>", "()V"⟩ 0 := ⟨rfl, ⟨by decide +kernel, by decide +kernel⟩, xpar_of (by decide +kernel), tw_3 (List.mem_of_getElem? (i := 14) rfl), Or.inl (tw_6 (List.mem_of_getElem? (i := 172) rfl))⟩
theorem l_Entry_7 : xFl "PageScribe$Entry" 7 5 0 := ⟨_, rfl, by decide, _, Or.inl rfl, Or.inl (tw_6 (List.mem_of_getElem? (i := 173) rfl))⟩
theorem fp_5_0 : xFp 5 0 true := ⟨_, rfl, by decide, tw_6 (List.mem_of_getElem? (i := 176) rfl), by rfl, rfl⟩
theorem fo_Entry_7 : ∃ q : vw_C, xCl[5]? = some q ∧ (q.2.1 0).1 = "PageScribe$Entry" ∧ Cond.fieldLink "PageScribe$Entry" 7 "PageScribe$Entry" (q.2.1 0).2.1 (q.2.1 0).2.2.1 ∈ lw_tbl := ⟨_, rfl, rfl, tw_6 (List.mem_of_getElem? (i := 173) rfl)⟩
theorem l_Entry_13 : xFl "PageScribe$Entry" 13 5 1 := ⟨_, rfl, by decide, _, Or.inl rfl, Or.inl (tw_6 (List.mem_of_getElem? (i := 174) rfl))⟩
theorem fp_5_1 : xFp 5 1 true := ⟨_, rfl, by decide, tw_6 (List.mem_of_getElem? (i := 178) rfl), by rfl, rfl⟩
theorem fo_Entry_13 : ∃ q : vw_C, xCl[5]? = some q ∧ (q.2.1 1).1 = "PageScribe$Entry" ∧ Cond.fieldLink "PageScribe$Entry" 13 "PageScribe$Entry" (q.2.1 1).2.1 (q.2.1 1).2.2.1 ∈ lw_tbl := ⟨_, rfl, rfl, tw_6 (List.mem_of_getElem? (i := 174) rfl)⟩
theorem fp_5_2 : xFp 5 2 true := ⟨_, rfl, by decide, tw_6 (List.mem_of_getElem? (i := 180) rfl), by rfl, rfl⟩
theorem fo_Entry_17 : ∃ q : vw_C, xCl[5]? = some q ∧ (q.2.1 2).1 = "PageScribe$Entry" ∧ Cond.fieldLink "PageScribe$Entry" 17 "PageScribe$Entry" (q.2.1 2).2.1 (q.2.1 2).2.2.1 ∈ lw_tbl := ⟨_, rfl, rfl, tw_6 (List.mem_of_getElem? (i := 175) rfl)⟩
theorem nw_Dict_21 : xNw "PageScribe$Dict" 21 5 3 := ⟨_, rfl, tw_6 (List.mem_of_getElem? (i := 165) rfl), tw_6 (List.mem_of_getElem? (i := 166) rfl), tw_1 (List.mem_of_getElem? (i := 42) rfl)⟩
theorem ly_5 : xLy 5 := ⟨_, rfl, fun k h => match k, h with | 0, _ => ⟨tw_6 (List.mem_of_getElem? (i := 176) rfl), rfl⟩ | 1, _ => ⟨tw_6 (List.mem_of_getElem? (i := 178) rfl), rfl⟩ | 2, _ => ⟨tw_6 (List.mem_of_getElem? (i := 180) rfl), rfl⟩ | k + 3, h => absurd h (by show ¬ k + 3 < 3; omega)⟩
theorem nw_Dict_34 : xNw "PageScribe$Dict" 34 2 8 := ⟨_, rfl, tw_6 (List.mem_of_getElem? (i := 167) rfl), tw_4 (List.mem_of_getElem? (i := 154) rfl), tw_1 (List.mem_of_getElem? (i := 36) rfl)⟩
theorem ly_2 : xLy 2 := ⟨_, rfl, fun k h => match k, h with | 0, _ => ⟨tw_4 (List.mem_of_getElem? (i := 190) rfl), rfl⟩ | 1, _ => ⟨tw_4 (List.mem_of_getElem? (i := 192) rfl), rfl⟩ | 2, _ => ⟨tw_4 (List.mem_of_getElem? (i := 194) rfl), rfl⟩ | 3, _ => ⟨tw_4 (List.mem_of_getElem? (i := 196) rfl), rfl⟩ | 4, _ => ⟨tw_4 (List.mem_of_getElem? (i := 198) rfl), rfl⟩ | 5, _ => ⟨tw_4 (List.mem_of_getElem? (i := 200) rfl), rfl⟩ | 6, _ => ⟨tw_4 (List.mem_of_getElem? (i := 202) rfl), rfl⟩ | 7, _ => ⟨tw_4 (List.mem_of_getElem? (i := 204) rfl), rfl⟩ | k + 8, h => absurd h (by show ¬ k + 8 < 8; omega)⟩
theorem ci_Dict_36 : xCi "PageScribe$Dict" 36 ⟨"PageScribe$Slot", "<init>", "()V"⟩ 0 := ⟨rfl, ⟨by decide +kernel, by decide +kernel⟩, xpar_of (by decide +kernel), tw_4 (List.mem_of_getElem? (i := 156) rfl), Or.inr ⟨_, tw_6 (List.mem_of_getElem? (i := 168) rfl)⟩⟩
theorem y_Slot_init : xY ⟨"PageScribe$Slot", "<init>", "()V"⟩ m_Slot_init := ⟨rfl, rfl, by decide +kernel, Or.inl ⟨rfl, tw_4 (List.mem_of_getElem? (i := 157) rfl)⟩⟩
theorem ci_Dict_37 : xCi "PageScribe$Dict" 37 ⟨"PageScribe$Entry", "<init>", "(LPageScribe$Name;LPageScribe$Slot;LPageScribe$Entry;)V"⟩ 3 := ⟨rfl, ⟨by decide +kernel, by decide +kernel⟩, xpar_of (by decide +kernel), tw_6 (List.mem_of_getElem? (i := 170) rfl), Or.inr ⟨_, tw_6 (List.mem_of_getElem? (i := 169) rfl)⟩⟩
theorem y_Entry_init : xY ⟨"PageScribe$Entry", "<init>", "(LPageScribe$Name;LPageScribe$Slot;LPageScribe$Entry;)V"⟩ m_Entry_init := ⟨rfl, rfl, by decide +kernel, Or.inl ⟨rfl, tw_6 (List.mem_of_getElem? (i := 171) rfl)⟩⟩
theorem cv_Dict_30 : xCv "PageScribe$Dict" 30 5 ⟨"PageScribe$Entry", "value", "()LPageScribe$Slot;"⟩ 0 := ⟨⟨by decide +kernel, by decide +kernel⟩, xpar_of (by decide +kernel), tw_5 (List.mem_of_getElem? (i := 147) rfl), ⟨_, rfl, tw_5 (List.mem_of_getElem? (i := 148) rfl)⟩, Or.inl (tw_5 (List.mem_of_getElem? (i := 146) rfl))⟩
theorem y_Entry_value : xY ⟨"PageScribe$Entry", "value", "()LPageScribe$Slot;"⟩ m_Entry_value := ⟨rfl, rfl, by decide +kernel, Or.inl ⟨rfl, tw_5 (List.mem_of_getElem? (i := 149) rfl)⟩⟩
theorem cv_Dict_20 : xCv "PageScribe$Dict" 20 5 ⟨"PageScribe$Entry", "key", "()LPageScribe$Name;"⟩ 0 := ⟨⟨by decide +kernel, by decide +kernel⟩, xpar_of (by decide +kernel), tw_5 (List.mem_of_getElem? (i := 139) rfl), ⟨_, rfl, tw_5 (List.mem_of_getElem? (i := 140) rfl)⟩, Or.inl (tw_5 (List.mem_of_getElem? (i := 138) rfl))⟩
theorem y_Entry_key : xY ⟨"PageScribe$Entry", "key", "()LPageScribe$Name;"⟩ m_Entry_key := ⟨rfl, rfl, by decide +kernel, Or.inl ⟨rfl, tw_5 (List.mem_of_getElem? (i := 141) rfl)⟩⟩
theorem l_Dict_7 : xFl "PageScribe$Dict" 7 4 0 := ⟨_, rfl, by decide, _, Or.inl rfl, Or.inl (tw_3 (List.mem_of_getElem? (i := 34) rfl))⟩
theorem fp_4_0 : xFp 4 0 true := ⟨_, rfl, by decide, tw_3 (List.mem_of_getElem? (i := 42) rfl), by rfl, rfl⟩
theorem fo_Dict_7 : ∃ q : vw_C, xCl[4]? = some q ∧ (q.2.1 0).1 = "PageScribe$Dict" ∧ Cond.fieldLink "PageScribe$Dict" 7 "PageScribe$Dict" (q.2.1 0).2.1 (q.2.1 0).2.2.1 ∈ lw_tbl := ⟨_, rfl, rfl, tw_3 (List.mem_of_getElem? (i := 34) rfl)⟩
theorem l_Dict_13 : xFl "PageScribe$Dict" 13 4 1 := ⟨_, rfl, by decide, _, Or.inl rfl, Or.inl (tw_3 (List.mem_of_getElem? (i := 36) rfl))⟩
theorem fp_4_1 : xFp 4 1 true := ⟨_, rfl, by decide, tw_3 (List.mem_of_getElem? (i := 44) rfl), by rfl, rfl⟩
theorem fo_Dict_13 : ∃ q : vw_C, xCl[4]? = some q ∧ (q.2.1 1).1 = "PageScribe$Dict" ∧ Cond.fieldLink "PageScribe$Dict" 13 "PageScribe$Dict" (q.2.1 1).2.1 (q.2.1 1).2.2.1 ∈ lw_tbl := ⟨_, rfl, rfl, tw_3 (List.mem_of_getElem? (i := 36) rfl)⟩
theorem ci_Flow_3 : xCi "PageScribe$Flow" 3 ⟨"PageScribe$Group", "<init>", "()V"⟩ 0 := ⟨rfl, ⟨by decide +kernel, by decide +kernel⟩, xpar_of (by decide +kernel), tw_1 (List.mem_of_getElem? (i := 62) rfl), Or.inr ⟨_, tw_1 (List.mem_of_getElem? (i := 92) rfl)⟩⟩
theorem y_Group_init : xY ⟨"PageScribe$Group", "<init>", "()V"⟩ m_Group_init := ⟨rfl, rfl, by decide +kernel, Or.inl ⟨rfl, tw_1 (List.mem_of_getElem? (i := 63) rfl)⟩⟩
theorem l_P_161 : xFl "PageScribe" 161 0 17 := ⟨_, rfl, by decide, _, Or.inl rfl, Or.inl (tw_3 (List.mem_of_getElem? (i := 151) rfl))⟩
theorem fp_0_17 : xFp 0 17 false := ⟨_, rfl, by decide, tw_3 (List.mem_of_getElem? (i := 218) rfl), by rfl, rfl⟩
theorem l_P_164 : xFl "PageScribe" 164 0 18 := ⟨_, rfl, by decide, _, Or.inl rfl, Or.inl (tw_3 (List.mem_of_getElem? (i := 153) rfl))⟩
theorem fp_0_18 : xFp 0 18 false := ⟨_, rfl, by decide, tw_3 (List.mem_of_getElem? (i := 220) rfl), by rfl, rfl⟩
theorem nw_P_167 : xNw "PageScribe" 167 21 6 := ⟨_, rfl, tw_4 (List.mem_of_getElem? (i := 133) rfl), tw_4 (List.mem_of_getElem? (i := 134) rfl), tw_1 (List.mem_of_getElem? (i := 35) rfl)⟩
theorem ex_P_169 : xEx "PageScribe" 169 21 ["java/lang/RuntimeException", "java/lang/Exception"] := xex_of _ rfl rfl (by decide +kernel) (by decide +kernel) (by decide +kernel)
theorem sl_Slot_51 : xSl "PageScribe$Slot" 51 (vA 77) := ⟨_, List.mem_of_getElem? (i := 77) rfl, rfl, Or.inl (tw_5 (List.mem_of_getElem? (i := 178) rfl))⟩
theorem l_Slot_25 : xFl "PageScribe$Slot" 25 2 1 := ⟨_, rfl, by decide, _, Or.inl rfl, Or.inl (tw_4 (List.mem_of_getElem? (i := 164) rfl))⟩
theorem l_P_80 : xFl "PageScribe" 80 0 19 := ⟨_, rfl, by decide, _, Or.inl rfl, Or.inl (tw_3 (List.mem_of_getElem? (i := 154) rfl))⟩
theorem l_P_291 : xFl "PageScribe" 291 0 21 := ⟨_, rfl, by decide, _, Or.inl rfl, Or.inl (tw_3 (List.mem_of_getElem? (i := 157) rfl))⟩
theorem l_P_84 : xFl "PageScribe" 84 0 20 := ⟨_, rfl, by decide, _, Or.inl rfl, Or.inl (tw_3 (List.mem_of_getElem? (i := 155) rfl))⟩
theorem fp_0_21 : xFp 0 21 false := ⟨_, rfl, by decide, tw_3 (List.mem_of_getElem? (i := 226) rfl), by rfl, rfl⟩
theorem cv_P_170 : xCv "PageScribe" 170 0 ⟨"PageScribe", "need", "(ZI)V"⟩ 2 := ⟨⟨by decide +kernel, by decide +kernel⟩, xpar_of (by decide +kernel), tw_4 (List.mem_of_getElem? (i := 131) rfl), ⟨_, rfl, List.mem_append_left _ (List.mem_of_getElem? (i := 5) (by decide +kernel))⟩, Or.inl (tw_4 (List.mem_of_getElem? (i := 129) rfl))⟩
theorem y_P_need : xY ⟨"PageScribe", "need", "(ZI)V"⟩ m_P_need := ⟨rfl, rfl, by decide +kernel, Or.inl ⟨rfl, tw_4 (List.mem_of_getElem? (i := 132) rfl)⟩⟩
theorem cv_P_378 : xCv "PageScribe" 378 0 ⟨"PageScribe", "enter", "(II)V"⟩ 2 := ⟨⟨by decide +kernel, by decide +kernel⟩, xpar_of (by decide +kernel), tw_5 (List.mem_of_getElem? (i := 185) rfl), ⟨_, rfl, List.mem_append_left _ (List.mem_of_getElem? (i := 25) (by decide +kernel))⟩, Or.inl (tw_5 (List.mem_of_getElem? (i := 183) rfl))⟩
theorem y_P_enter : xY ⟨"PageScribe", "enter", "(II)V"⟩ m_P_enter := ⟨rfl, rfl, by decide +kernel, Or.inl ⟨rfl, tw_5 (List.mem_of_getElem? (i := 186) rfl)⟩⟩
theorem l_P_381 : xFl "PageScribe" 381 0 24 := ⟨_, rfl, by decide, _, Or.inl rfl, Or.inl (tw_3 (List.mem_of_getElem? (i := 163) rfl))⟩
theorem l_P_57 : xFl "PageScribe" 57 0 7 := ⟨_, rfl, by decide, _, Or.inl rfl, Or.inl (tw_3 (List.mem_of_getElem? (i := 131) rfl))⟩
theorem cv_P_364 : xCv "PageScribe" 364 0 ⟨"PageScribe", "element", "(LPageScribe$Slot;I)V"⟩ 2 := ⟨⟨by decide +kernel, by decide +kernel⟩, xpar_of (by decide +kernel), tw_5 (List.mem_of_getElem? (i := 120) rfl), ⟨_, rfl, List.mem_append_left _ (List.mem_of_getElem? (i := 18) (by decide +kernel))⟩, Or.inl (tw_5 (List.mem_of_getElem? (i := 118) rfl))⟩
theorem y_P_element : xY ⟨"PageScribe", "element", "(LPageScribe$Slot;I)V"⟩ m_P_element := ⟨rfl, rfl, by decide +kernel, Or.inl ⟨rfl, tw_5 (List.mem_of_getElem? (i := 121) rfl)⟩⟩
theorem l_P_327 : xFl "PageScribe" 327 2 1 := ⟨_, rfl, by decide, _, Or.inl rfl, Or.inr ⟨_, tw_4 (List.mem_of_getElem? (i := 167) rfl)⟩⟩
theorem cv_P_351 : xCv "PageScribe" 351 2 ⟨"PageScribe$Slot", "isProcedure", "()Z"⟩ 0 := ⟨⟨by decide +kernel, by decide +kernel⟩, xpar_of (by decide +kernel), tw_5 (List.mem_of_getElem? (i := 175) rfl), ⟨_, rfl, tw_5 (List.mem_of_getElem? (i := 176) rfl)⟩, Or.inl (tw_5 (List.mem_of_getElem? (i := 174) rfl))⟩
theorem y_Slot_isProcedure : xY ⟨"PageScribe$Slot", "isProcedure", "()Z"⟩ m_Slot_isProcedure := ⟨rfl, rfl, by decide +kernel, Or.inl ⟨rfl, tw_5 (List.mem_of_getElem? (i := 177) rfl)⟩⟩
theorem l_P_355 : xFl "PageScribe" 355 2 2 := ⟨_, rfl, by decide, _, Or.inl rfl, Or.inr ⟨_, tw_4 (List.mem_of_getElem? (i := 175) rfl)⟩⟩
theorem l_P_358 : xFl "PageScribe" 358 2 3 := ⟨_, rfl, by decide, _, Or.inl rfl, Or.inr ⟨_, tw_4 (List.mem_of_getElem? (i := 180) rfl)⟩⟩
theorem cv_P_360 : xCv "PageScribe" 360 0 ⟨"PageScribe", "call", "(III)V"⟩ 3 := ⟨⟨by decide +kernel, by decide +kernel⟩, xpar_of (by decide +kernel), tw_5 (List.mem_of_getElem? (i := 181) rfl), ⟨_, rfl, List.mem_append_left _ (List.mem_of_getElem? (i := 24) (by decide +kernel))⟩, Or.inl (tw_5 (List.mem_of_getElem? (i := 179) rfl))⟩
theorem y_P_call : xY ⟨"PageScribe", "call", "(III)V"⟩ m_P_call := ⟨rfl, rfl, by decide +kernel, Or.inl ⟨rfl, tw_5 (List.mem_of_getElem? (i := 182) rfl)⟩⟩
theorem l_P_53 : xFl "PageScribe" 53 0 6 := ⟨_, rfl, by decide, _, Or.inl rfl, Or.inl (tw_3 (List.mem_of_getElem? (i := 128) rfl))⟩
theorem l_P_174 : xFl "PageScribe" 174 0 9 := ⟨_, rfl, by decide, _, Or.inl rfl, Or.inl (tw_3 (List.mem_of_getElem? (i := 140) rfl))⟩
theorem l_P_384 : xFl "PageScribe" 384 0 22 := ⟨_, rfl, by decide, _, Or.inl rfl, Or.inl (tw_3 (List.mem_of_getElem? (i := 159) rfl))⟩
theorem l_P_387 : xFl "PageScribe" 387 0 23 := ⟨_, rfl, by decide, _, Or.inl rfl, Or.inl (tw_3 (List.mem_of_getElem? (i := 161) rfl))⟩
theorem fp_0_23 : xFp 0 23 false := ⟨_, rfl, by decide, tw_3 (List.mem_of_getElem? (i := 230) rfl), by rfl, rfl⟩
theorem cv_P_390 : xCv "PageScribe" 390 0 ⟨"PageScribe", "execute", "(LPageScribe$Slot;I)V"⟩ 2 := ⟨⟨by decide +kernel, by decide +kernel⟩, xpar_of (by decide +kernel), tw_5 (List.mem_of_getElem? (i := 172) rfl), ⟨_, rfl, List.mem_append_left _ (List.mem_of_getElem? (i := 23) (by decide +kernel))⟩, Or.inl (tw_5 (List.mem_of_getElem? (i := 201) rfl))⟩
theorem y_P_execute : xY ⟨"PageScribe", "execute", "(LPageScribe$Slot;I)V"⟩ m_P_execute := ⟨rfl, rfl, by decide +kernel, Or.inl ⟨rfl, tw_5 (List.mem_of_getElem? (i := 173) rfl)⟩⟩
theorem fp_0_22 : xFp 0 22 false := ⟨_, rfl, by decide, tw_3 (List.mem_of_getElem? (i := 228) rfl), by rfl, rfl⟩
theorem fp_0_24 : xFp 0 24 false := ⟨_, rfl, by decide, tw_3 (List.mem_of_getElem? (i := 232) rfl), by rfl, rfl⟩
theorem kl_P_167 : Cond.classLink "PageScribe" 167 "java/lang/UnsupportedOperationException" ∈ lw_tbl := tw_4 (List.mem_of_getElem? (i := 133) rfl)
theorem fp_0_9 : xFp 0 9 false := ⟨_, rfl, by decide, tw_3 (List.mem_of_getElem? (i := 202) rfl), by rfl, rfl⟩
theorem nw_P_51 : xNw "PageScribe" 51 2 8 := ⟨_, rfl, tw_1 (List.mem_of_getElem? (i := 136) rfl), tw_4 (List.mem_of_getElem? (i := 154) rfl), tw_1 (List.mem_of_getElem? (i := 36) rfl)⟩
theorem ci_P_177 : xCi "PageScribe" 177 ⟨"PageScribe$Slot", "<init>", "()V"⟩ 0 := ⟨rfl, ⟨by decide +kernel, by decide +kernel⟩, xpar_of (by decide +kernel), tw_4 (List.mem_of_getElem? (i := 156) rfl), Or.inr ⟨_, tw_4 (List.mem_of_getElem? (i := 155) rfl)⟩⟩
theorem l_Slot_18 : xFl "PageScribe$Slot" 18 2 2 := ⟨_, rfl, by decide, _, Or.inl rfl, Or.inl (tw_4 (List.mem_of_getElem? (i := 168) rfl))⟩
theorem fp_2_2 : xFp 2 2 false := ⟨_, rfl, by decide, tw_4 (List.mem_of_getElem? (i := 194) rfl), by rfl, rfl⟩
theorem l_Slot_22 : xFl "PageScribe$Slot" 22 2 3 := ⟨_, rfl, by decide, _, Or.inl rfl, Or.inl (tw_4 (List.mem_of_getElem? (i := 177) rfl))⟩
theorem fp_2_3 : xFp 2 3 false := ⟨_, rfl, by decide, tw_4 (List.mem_of_getElem? (i := 196) rfl), by rfl, rfl⟩
theorem fp_2_1 : xFp 2 1 false := ⟨_, rfl, by decide, tw_4 (List.mem_of_getElem? (i := 192) rfl), by rfl, rfl⟩
theorem cv_P_178 : xCv "PageScribe" 178 0 ⟨"PageScribe", "place", "(I)LPageScribe$Slot;"⟩ 1 := ⟨⟨by decide +kernel, by decide +kernel⟩, xpar_of (by decide +kernel), tw_4 (List.mem_of_getElem? (i := 127) rfl), ⟨_, rfl, List.mem_append_left _ (List.mem_of_getElem? (i := 4) (by decide +kernel))⟩, Or.inl (tw_4 (List.mem_of_getElem? (i := 125) rfl))⟩
theorem y_P_place : xY ⟨"PageScribe", "place", "(I)LPageScribe$Slot;"⟩ m_P_place := ⟨rfl, rfl, by decide +kernel, Or.inl ⟨rfl, tw_4 (List.mem_of_getElem? (i := 128) rfl)⟩⟩
theorem cv_P_186 : xCv "PageScribe" 186 2 ⟨"PageScribe$Slot", "set", "(LPageScribe$Kind;IIZ)V"⟩ 4 := ⟨⟨by decide +kernel, by decide +kernel⟩, xpar_of (by decide +kernel), tw_4 (List.mem_of_getElem? (i := 214) rfl), ⟨_, rfl, tw_4 (List.mem_of_getElem? (i := 215) rfl)⟩, Or.inl (tw_5 (List.mem_of_getElem? (i := 65) rfl))⟩
theorem y_Slot_set : xY ⟨"PageScribe$Slot", "set", "(LPageScribe$Kind;IIZ)V"⟩ m_Slot_set := ⟨rfl, rfl, by decide +kernel, Or.inl ⟨rfl, tw_4 (List.mem_of_getElem? (i := 216) rfl)⟩⟩
theorem sl_P_210 : xSl "PageScribe" 210 (vA 74) := ⟨_, List.mem_of_getElem? (i := 74) rfl, rfl, Or.inl (tw_5 (List.mem_of_getElem? (i := 206) rfl))⟩
theorem cv_P_199 : xCv "PageScribe" 199 0 ⟨"PageScribe", "give", "(ILPageScribe$Kind;I)V"⟩ 3 := ⟨⟨by decide +kernel, by decide +kernel⟩, xpar_of (by decide +kernel), tw_5 (List.mem_of_getElem? (i := 209) rfl), ⟨_, rfl, List.mem_append_left _ (List.mem_of_getElem? (i := 29) (by decide +kernel))⟩, Or.inl (tw_5 (List.mem_of_getElem? (i := 207) rfl))⟩
theorem y_P_give : xY ⟨"PageScribe", "give", "(ILPageScribe$Kind;I)V"⟩ m_P_give := ⟨rfl, rfl, by decide +kernel, Or.inl ⟨rfl, tw_5 (List.mem_of_getElem? (i := 210) rfl)⟩⟩
theorem ci_Save_1 : xCi "PageScribe$Save" 1 ⟨"java/lang/Record", "<init>", "()V"⟩ 0 := ⟨rfl, ⟨by decide +kernel, by decide +kernel⟩, xpar_of (by decide +kernel), tw_3 (List.mem_of_getElem? (i := 14) rfl), Or.inl (tw_5 (List.mem_of_getElem? (i := 223) rfl))⟩
theorem l_Save_7 : xFl "PageScribe$Save" 7 6 0 := ⟨_, rfl, by decide, _, Or.inl rfl, Or.inl (tw_5 (List.mem_of_getElem? (i := 224) rfl))⟩
theorem fp_6_0 : xFp 6 0 true := ⟨_, rfl, by decide, tw_5 (List.mem_of_getElem? (i := 228) rfl), by rfl, rfl⟩
theorem fo_Save_7 : ∃ q : vw_C, xCl[6]? = some q ∧ (q.2.1 0).1 = "PageScribe$Save" ∧ Cond.fieldLink "PageScribe$Save" 7 "PageScribe$Save" (q.2.1 0).2.1 (q.2.1 0).2.2.1 ∈ lw_tbl := ⟨_, rfl, rfl, tw_5 (List.mem_of_getElem? (i := 224) rfl)⟩
theorem l_Save_13 : xFl "PageScribe$Save" 13 6 1 := ⟨_, rfl, by decide, _, Or.inl rfl, Or.inl (tw_5 (List.mem_of_getElem? (i := 225) rfl))⟩
theorem fp_6_1 : xFp 6 1 true := ⟨_, rfl, by decide, tw_5 (List.mem_of_getElem? (i := 230) rfl), by rfl, rfl⟩
theorem fo_Save_13 : ∃ q : vw_C, xCl[6]? = some q ∧ (q.2.1 1).1 = "PageScribe$Save" ∧ Cond.fieldLink "PageScribe$Save" 13 "PageScribe$Save" (q.2.1 1).2.1 (q.2.1 1).2.2.1 ∈ lw_tbl := ⟨_, rfl, rfl, tw_5 (List.mem_of_getElem? (i := 225) rfl)⟩
theorem l_Save_16 : xFl "PageScribe$Save" 16 6 2 := ⟨_, rfl, by decide, _, Or.inl rfl, Or.inl (tw_5 (List.mem_of_getElem? (i := 226) rfl))⟩
theorem fp_6_2 : xFp 6 2 true := ⟨_, rfl, by decide, tw_5 (List.mem_of_getElem? (i := 232) rfl), by rfl, rfl⟩
theorem fo_Save_16 : ∃ q : vw_C, xCl[6]? = some q ∧ (q.2.1 2).1 = "PageScribe$Save" ∧ Cond.fieldLink "PageScribe$Save" 16 "PageScribe$Save" (q.2.1 2).2.1 (q.2.1 2).2.2.1 ∈ lw_tbl := ⟨_, rfl, rfl, tw_5 (List.mem_of_getElem? (i := 226) rfl)⟩
theorem l_Save_19 : xFl "PageScribe$Save" 19 6 3 := ⟨_, rfl, by decide, _, Or.inl rfl, Or.inl (tw_5 (List.mem_of_getElem? (i := 227) rfl))⟩
theorem fp_6_3 : xFp 6 3 true := ⟨_, rfl, by decide, tw_5 (List.mem_of_getElem? (i := 234) rfl), by rfl, rfl⟩
theorem fo_Save_19 : ∃ q : vw_C, xCl[6]? = some q ∧ (q.2.1 3).1 = "PageScribe$Save" ∧ Cond.fieldLink "PageScribe$Save" 19 "PageScribe$Save" (q.2.1 3).2.1 (q.2.1 3).2.2.1 ∈ lw_tbl := ⟨_, rfl, rfl, tw_5 (List.mem_of_getElem? (i := 227) rfl)⟩
theorem l_P_234 : xFl "PageScribe" 234 0 26 := ⟨_, rfl, by decide, _, Or.inl rfl, Or.inl (tw_3 (List.mem_of_getElem? (i := 165) rfl))⟩
theorem sl_P_270 : xSl "PageScribe" 270 (vA 79) := ⟨_, List.mem_of_getElem? (i := 79) rfl, rfl, Or.inl (tw_5 (List.mem_of_getElem? (i := 217) rfl))⟩
theorem l_P_273 : xFl "PageScribe" 273 0 27 := ⟨_, rfl, by decide, _, Or.inl rfl, Or.inl (tw_3 (List.mem_of_getElem? (i := 166) rfl))⟩
theorem fp_0_27 : xFp 0 27 false := ⟨_, rfl, by decide, tw_3 (List.mem_of_getElem? (i := 238) rfl), by rfl, rfl⟩
theorem l_P_89 : xFl "PageScribe" 89 0 25 := ⟨_, rfl, by decide, _, Or.inl rfl, Or.inl (tw_3 (List.mem_of_getElem? (i := 164) rfl))⟩
theorem fp_0_26 : xFp 0 26 false := ⟨_, rfl, by decide, tw_3 (List.mem_of_getElem? (i := 236) rfl), by rfl, rfl⟩
theorem nw_P_87 : xNw "PageScribe" 87 6 4 := ⟨_, rfl, tw_2 (List.mem_of_getElem? (i := 215) rfl), tw_5 (List.mem_of_getElem? (i := 219) rfl), tw_1 (List.mem_of_getElem? (i := 39) rfl)⟩
theorem ly_6 : xLy 6 := ⟨_, rfl, fun k h => match k, h with | 0, _ => ⟨tw_5 (List.mem_of_getElem? (i := 228) rfl), rfl⟩ | 1, _ => ⟨tw_5 (List.mem_of_getElem? (i := 230) rfl), rfl⟩ | 2, _ => ⟨tw_5 (List.mem_of_getElem? (i := 232) rfl), rfl⟩ | 3, _ => ⟨tw_5 (List.mem_of_getElem? (i := 234) rfl), rfl⟩ | k + 4, h => absurd h (by show ¬ k + 4 < 4; omega)⟩
theorem l_P_231 : xFl "PageScribe" 231 0 10 := ⟨_, rfl, by decide, _, Or.inl rfl, Or.inl (tw_3 (List.mem_of_getElem? (i := 141) rfl))⟩
theorem l_P_66 : xFl "PageScribe" 66 0 12 := ⟨_, rfl, by decide, _, Or.inl rfl, Or.inl (tw_3 (List.mem_of_getElem? (i := 143) rfl))⟩
theorem cv_P_276 : xCv "PageScribe" 276 17 ⟨"java/util/ArrayList", "size", "()I"⟩ 0 := ⟨⟨by decide +kernel, by decide +kernel⟩, xpar_of (by decide +kernel), tw_5 (List.mem_of_getElem? (i := 4) rfl), ⟨_, rfl, tw_5 (List.mem_of_getElem? (i := 5) rfl)⟩, Or.inl (tw_5 (List.mem_of_getElem? (i := 3) rfl))⟩
theorem y_ArrayList_size : xY ⟨"java/util/ArrayList", "size", "()I"⟩ m_ArrayList_size := ⟨rfl, rfl, by decide +kernel, Or.inl ⟨rfl, tw_5 (List.mem_of_getElem? (i := 6) rfl)⟩⟩
theorem l_P_242 : xFl "PageScribe" 242 0 28 := ⟨_, rfl, by decide, _, Or.inl rfl, Or.inl (tw_3 (List.mem_of_getElem? (i := 167) rfl))⟩
theorem ci_P_279 : xCi "PageScribe" 279 ⟨"PageScribe$Save", "<init>", "(IIILPageScribe$Change;)V"⟩ 4 := ⟨rfl, ⟨by decide +kernel, by decide +kernel⟩, xpar_of (by decide +kernel), tw_5 (List.mem_of_getElem? (i := 221) rfl), Or.inr ⟨_, tw_5 (List.mem_of_getElem? (i := 220) rfl)⟩⟩
theorem y_Save_init : xY ⟨"PageScribe$Save", "<init>", "(IIILPageScribe$Change;)V"⟩ m_Save_init := ⟨rfl, rfl, by decide +kernel, Or.inl ⟨rfl, tw_5 (List.mem_of_getElem? (i := 222) rfl)⟩⟩
theorem sl_Save_23 : xSl "PageScribe$Save" 23 (vA 77) := ⟨_, List.mem_of_getElem? (i := 77) rfl, rfl, Or.inl (tw_6 (List.mem_of_getElem? (i := 10) rfl))⟩
theorem cv_Save_29 : xCv "PageScribe$Save" 29 2 ⟨"PageScribe$Slot", "is", "(LPageScribe$Kind;)Z"⟩ 1 := ⟨⟨by decide +kernel, by decide +kernel⟩, xpar_of (by decide +kernel), tw_4 (List.mem_of_getElem? (i := 232) rfl), ⟨_, rfl, tw_4 (List.mem_of_getElem? (i := 233) rfl)⟩, Or.inl (tw_6 (List.mem_of_getElem? (i := 11) rfl))⟩
theorem y_Slot_is : xY ⟨"PageScribe$Slot", "is", "(LPageScribe$Kind;)Z"⟩ m_Slot_is := ⟨rfl, rfl, by decide +kernel, Or.inl ⟨rfl, tw_4 (List.mem_of_getElem? (i := 234) rfl)⟩⟩
theorem l_Save_35 : xFl "PageScribe$Save" 35 2 3 := ⟨_, rfl, by decide, _, Or.inl rfl, Or.inr ⟨_, tw_4 (List.mem_of_getElem? (i := 176) rfl)⟩⟩
theorem l_Save_38 : xFl "PageScribe$Save" 38 2 2 := ⟨_, rfl, by decide, _, Or.inl rfl, Or.inr ⟨_, tw_4 (List.mem_of_getElem? (i := 169) rfl)⟩⟩
theorem sl_Save_41 : xSl "PageScribe$Save" 41 (vA 78) := ⟨_, List.mem_of_getElem? (i := 78) rfl, rfl, Or.inl (tw_6 (List.mem_of_getElem? (i := 12) rfl))⟩
theorem sl_Save_44 : xSl "PageScribe$Save" 44 (vA 79) := ⟨_, List.mem_of_getElem? (i := 79) rfl, rfl, Or.inl (tw_6 (List.mem_of_getElem? (i := 14) rfl))⟩
theorem cv_Slot_32 : xCv "PageScribe$Slot" 32 2 ⟨"PageScribe$Slot", "set", "(LPageScribe$Kind;IIZ)V"⟩ 4 := ⟨⟨by decide +kernel, by decide +kernel⟩, xpar_of (by decide +kernel), tw_4 (List.mem_of_getElem? (i := 214) rfl), ⟨_, rfl, tw_4 (List.mem_of_getElem? (i := 215) rfl)⟩, Or.inl (tw_4 (List.mem_of_getElem? (i := 213) rfl))⟩
theorem l_Slot_36 : xFl "PageScribe$Slot" 36 2 5 := ⟨_, rfl, by decide, _, Or.inl rfl, Or.inl (tw_4 (List.mem_of_getElem? (i := 183) rfl))⟩
theorem fp_2_5 : xFp 2 5 false := ⟨_, rfl, by decide, tw_4 (List.mem_of_getElem? (i := 200) rfl), by rfl, rfl⟩
theorem l_Slot_43 : xFl "PageScribe$Slot" 43 2 6 := ⟨_, rfl, by decide, _, Or.inl rfl, Or.inl (tw_4 (List.mem_of_getElem? (i := 185) rfl))⟩
theorem fp_2_6 : xFp 2 6 false := ⟨_, rfl, by decide, tw_4 (List.mem_of_getElem? (i := 202) rfl), by rfl, rfl⟩
theorem l_Slot_47 : xFl "PageScribe$Slot" 47 2 7 := ⟨_, rfl, by decide, _, Or.inl rfl, Or.inl (tw_4 (List.mem_of_getElem? (i := 188) rfl))⟩
theorem fp_2_7 : xFp 2 7 false := ⟨_, rfl, by decide, tw_4 (List.mem_of_getElem? (i := 204) rfl), by rfl, rfl⟩
theorem l_Rewritten_13 : xFl "PageScribe$Rewritten" 13 8 1 := ⟨_, rfl, by decide, _, Or.inl rfl, Or.inl (tw_6 (List.mem_of_getElem? (i := 145) rfl))⟩
theorem l_Rewritten_17 : xFl "PageScribe$Rewritten" 17 8 2 := ⟨_, rfl, by decide, _, Or.inl rfl, Or.inl (tw_6 (List.mem_of_getElem? (i := 146) rfl))⟩
theorem cv_Rewritten_24 : xCv "PageScribe$Rewritten" 24 2 ⟨"PageScribe$Slot", "copy", "(LPageScribe$Slot;)V"⟩ 1 := ⟨⟨by decide +kernel, by decide +kernel⟩, xpar_of (by decide +kernel), tw_5 (List.mem_of_getElem? (i := 67) rfl), ⟨_, rfl, tw_5 (List.mem_of_getElem? (i := 68) rfl)⟩, Or.inl (tw_6 (List.mem_of_getElem? (i := 47) rfl))⟩
theorem y_Slot_copy : xY ⟨"PageScribe$Slot", "copy", "(LPageScribe$Slot;)V"⟩ m_Slot_copy := ⟨rfl, rfl, by decide +kernel, Or.inl ⟨rfl, tw_5 (List.mem_of_getElem? (i := 69) rfl)⟩⟩
theorem l_Rewritten_20 : xFl "PageScribe$Rewritten" 20 8 3 := ⟨_, rfl, by decide, _, Or.inl rfl, Or.inl (tw_6 (List.mem_of_getElem? (i := 147) rfl))⟩
theorem l_Rewritten_30 : xFl "PageScribe$Rewritten" 30 2 4 := ⟨_, rfl, by decide, _, Or.inl rfl, Or.inr ⟨_, tw_4 (List.mem_of_getElem? (i := 181) rfl)⟩⟩
theorem fp_2_4 : xFp 2 4 false := ⟨_, rfl, by decide, tw_4 (List.mem_of_getElem? (i := 198) rfl), by rfl, rfl⟩
theorem l_Rewritten_7 : xFl "PageScribe$Rewritten" 7 8 0 := ⟨_, rfl, by decide, _, Or.inl rfl, Or.inl (tw_6 (List.mem_of_getElem? (i := 144) rfl))⟩
theorem cv_P_282 : xCv "PageScribe" 282 6 ⟨"PageScribe$Save", "serial", "()I"⟩ 0 := ⟨⟨by decide +kernel, by decide +kernel⟩, xpar_of (by decide +kernel), tw_6 (List.mem_of_getElem? (i := 3) rfl), ⟨_, rfl, tw_6 (List.mem_of_getElem? (i := 4) rfl)⟩, Or.inl (tw_6 (List.mem_of_getElem? (i := 2) rfl))⟩
theorem y_Save_serial : xY ⟨"PageScribe$Save", "serial", "()I"⟩ m_Save_serial := ⟨rfl, rfl, by decide +kernel, Or.inl ⟨rfl, tw_6 (List.mem_of_getElem? (i := 5) rfl)⟩⟩
theorem cv_P_285 : xCv "PageScribe" 285 6 ⟨"PageScribe$Save", "isBefore", "(LPageScribe$Slot;)Z"⟩ 1 := ⟨⟨by decide +kernel, by decide +kernel⟩, xpar_of (by decide +kernel), tw_6 (List.mem_of_getElem? (i := 7) rfl), ⟨_, rfl, tw_6 (List.mem_of_getElem? (i := 8) rfl)⟩, Or.inl (tw_6 (List.mem_of_getElem? (i := 6) rfl))⟩
theorem y_Save_isBefore : xY ⟨"PageScribe$Save", "isBefore", "(LPageScribe$Slot;)Z"⟩ m_Save_isBefore := ⟨rfl, rfl, by decide +kernel, Or.inl ⟨rfl, tw_6 (List.mem_of_getElem? (i := 9) rfl)⟩⟩
theorem l_P_76 : xFl "PageScribe" 76 0 14 := ⟨_, rfl, by decide, _, Or.inl rfl, Or.inl (tw_3 (List.mem_of_getElem? (i := 147) rfl))⟩
theorem l_P_72 : xFl "PageScribe" 72 0 13 := ⟨_, rfl, by decide, _, Or.inl rfl, Or.inl (tw_3 (List.mem_of_getElem? (i := 145) rfl))⟩
theorem l_P_196 : xFl "PageScribe" 196 4 0 := ⟨_, rfl, by decide, _, Or.inl rfl, Or.inr ⟨_, tw_3 (List.mem_of_getElem? (i := 35) rfl)⟩⟩
theorem cv_P_289 : xCv "PageScribe" 289 6 ⟨"PageScribe$Save", "dicts", "()I"⟩ 0 := ⟨⟨by decide +kernel, by decide +kernel⟩, xpar_of (by decide +kernel), tw_6 (List.mem_of_getElem? (i := 16) rfl), ⟨_, rfl, tw_6 (List.mem_of_getElem? (i := 17) rfl)⟩, Or.inl (tw_6 (List.mem_of_getElem? (i := 15) rfl))⟩
theorem y_Save_dicts : xY ⟨"PageScribe$Save", "dicts", "()I"⟩ m_Save_dicts := ⟨rfl, rfl, by decide +kernel, Or.inl ⟨rfl, tw_6 (List.mem_of_getElem? (i := 18) rfl)⟩⟩
theorem cv_P_294 : xCv "PageScribe" 294 6 ⟨"PageScribe$Save", "cells", "()I"⟩ 0 := ⟨⟨by decide +kernel, by decide +kernel⟩, xpar_of (by decide +kernel), tw_6 (List.mem_of_getElem? (i := 20) rfl), ⟨_, rfl, tw_6 (List.mem_of_getElem? (i := 21) rfl)⟩, Or.inl (tw_6 (List.mem_of_getElem? (i := 19) rfl))⟩
theorem y_Save_cells : xY ⟨"PageScribe$Save", "cells", "()I"⟩ m_Save_cells := ⟨rfl, rfl, by decide +kernel, Or.inl ⟨rfl, tw_6 (List.mem_of_getElem? (i := 22) rfl)⟩⟩
theorem cv_P_296 : xCv "PageScribe" 296 6 ⟨"PageScribe$Save", "mark", "()LPageScribe$Change;"⟩ 0 := ⟨⟨by decide +kernel, by decide +kernel⟩, xpar_of (by decide +kernel), tw_6 (List.mem_of_getElem? (i := 24) rfl), ⟨_, rfl, tw_6 (List.mem_of_getElem? (i := 25) rfl)⟩, Or.inl (tw_6 (List.mem_of_getElem? (i := 23) rfl))⟩
theorem y_Save_mark : xY ⟨"PageScribe$Save", "mark", "()LPageScribe$Change;"⟩ m_Save_mark := ⟨rfl, rfl, by decide +kernel, Or.inl ⟨rfl, tw_6 (List.mem_of_getElem? (i := 26) rfl)⟩⟩
theorem cf_P_300_8 : xCf "PageScribe" 300 8 ⟨"PageScribe$Change", "undo", "()V"⟩ ⟨"PageScribe$Rewritten", "undo", "()V"⟩ 0 := ⟨tw_6 (List.mem_of_getElem? (i := 28) rfl), tw_6 (List.mem_of_getElem? (i := 30) rfl), ⟨tw_6 (List.mem_of_getElem? (i := 29) rfl), rfl⟩, ⟨_, rfl, tw_6 (List.mem_of_getElem? (i := 42) rfl), tw_6 (List.mem_of_getElem? (i := 43) rfl), tw_6 (List.mem_of_getElem? (i := 41) rfl)⟩, tw_6 (List.mem_of_getElem? (i := 44) rfl), tw_6 (List.mem_of_getElem? (i := 45) rfl), ⟨by decide +kernel, by decide +kernel⟩, xpar_of (by decide +kernel)⟩
theorem y_Rewritten_undo : xY ⟨"PageScribe$Rewritten", "undo", "()V"⟩ m_Rewritten_undo := ⟨rfl, rfl, by decide +kernel, Or.inl ⟨rfl, tw_6 (List.mem_of_getElem? (i := 46) rfl)⟩⟩
theorem cf_P_300_9 : xCf "PageScribe" 300 9 ⟨"PageScribe$Change", "undo", "()V"⟩ ⟨"PageScribe$Added", "undo", "()V"⟩ 0 := ⟨tw_6 (List.mem_of_getElem? (i := 28) rfl), tw_6 (List.mem_of_getElem? (i := 30) rfl), ⟨tw_6 (List.mem_of_getElem? (i := 29) rfl), rfl⟩, ⟨_, rfl, tw_6 (List.mem_of_getElem? (i := 32) rfl), tw_6 (List.mem_of_getElem? (i := 33) rfl), tw_6 (List.mem_of_getElem? (i := 31) rfl)⟩, tw_6 (List.mem_of_getElem? (i := 34) rfl), tw_6 (List.mem_of_getElem? (i := 35) rfl), ⟨by decide +kernel, by decide +kernel⟩, xpar_of (by decide +kernel)⟩
theorem y_Added_undo : xY ⟨"PageScribe$Added", "undo", "()V"⟩ m_Added_undo := ⟨rfl, rfl, by decide +kernel, Or.inl ⟨rfl, tw_6 (List.mem_of_getElem? (i := 36) rfl)⟩⟩
theorem cf_P_305_8 : xCf "PageScribe" 305 8 ⟨"PageScribe$Change", "before", "()LPageScribe$Change;"⟩ ⟨"PageScribe$Rewritten", "before", "()LPageScribe$Change;"⟩ 0 := ⟨tw_6 (List.mem_of_getElem? (i := 49) rfl), tw_6 (List.mem_of_getElem? (i := 51) rfl), ⟨tw_6 (List.mem_of_getElem? (i := 50) rfl), rfl⟩, ⟨_, rfl, tw_6 (List.mem_of_getElem? (i := 57) rfl), tw_6 (List.mem_of_getElem? (i := 58) rfl), tw_6 (List.mem_of_getElem? (i := 41) rfl)⟩, tw_6 (List.mem_of_getElem? (i := 59) rfl), tw_6 (List.mem_of_getElem? (i := 60) rfl), ⟨by decide +kernel, by decide +kernel⟩, xpar_of (by decide +kernel)⟩
theorem y_Rewritten_before : xY ⟨"PageScribe$Rewritten", "before", "()LPageScribe$Change;"⟩ m_Rewritten_before := ⟨rfl, rfl, by decide +kernel, Or.inl ⟨rfl, tw_6 (List.mem_of_getElem? (i := 61) rfl)⟩⟩
theorem cf_P_305_9 : xCf "PageScribe" 305 9 ⟨"PageScribe$Change", "before", "()LPageScribe$Change;"⟩ ⟨"PageScribe$Added", "before", "()LPageScribe$Change;"⟩ 0 := ⟨tw_6 (List.mem_of_getElem? (i := 49) rfl), tw_6 (List.mem_of_getElem? (i := 51) rfl), ⟨tw_6 (List.mem_of_getElem? (i := 50) rfl), rfl⟩, ⟨_, rfl, tw_6 (List.mem_of_getElem? (i := 52) rfl), tw_6 (List.mem_of_getElem? (i := 53) rfl), tw_6 (List.mem_of_getElem? (i := 31) rfl)⟩, tw_6 (List.mem_of_getElem? (i := 54) rfl), tw_6 (List.mem_of_getElem? (i := 55) rfl), ⟨by decide +kernel, by decide +kernel⟩, xpar_of (by decide +kernel)⟩
theorem y_Added_before : xY ⟨"PageScribe$Added", "before", "()LPageScribe$Change;"⟩ m_Added_before := ⟨rfl, rfl, by decide +kernel, Or.inl ⟨rfl, tw_6 (List.mem_of_getElem? (i := 56) rfl)⟩⟩
theorem fp_0_28 : xFp 0 28 false := ⟨_, rfl, by decide, tw_4 (List.mem_of_getElem? (i := 0) rfl), by rfl, rfl⟩
theorem fp_0_10 : xFp 0 10 false := ⟨_, rfl, by decide, tw_3 (List.mem_of_getElem? (i := 204) rfl), by rfl, rfl⟩
theorem cv_P_308 : xCv "PageScribe" 308 17 ⟨"java/util/ArrayList", "remove", "(I)Ljava/lang/Object;"⟩ 1 := ⟨⟨by decide +kernel, by decide +kernel⟩, xpar_of (by decide +kernel), tw_6 (List.mem_of_getElem? (i := 63) rfl), ⟨_, rfl, tw_6 (List.mem_of_getElem? (i := 64) rfl)⟩, Or.inl (tw_6 (List.mem_of_getElem? (i := 62) rfl))⟩
theorem y_ArrayList_remove : xY ⟨"java/util/ArrayList", "remove", "(I)Ljava/lang/Object;"⟩ m_ArrayList_remove := ⟨rfl, rfl, by decide +kernel, Or.inl ⟨rfl, tw_6 (List.mem_of_getElem? (i := 65) rfl)⟩⟩
theorem ci_Turn_1 : xCi "PageScribe$Turn" 1 ⟨"java/lang/Record", "<init>", "()V"⟩ 0 := ⟨rfl, ⟨by decide +kernel, by decide +kernel⟩, xpar_of (by decide +kernel), tw_3 (List.mem_of_getElem? (i := 14) rfl), Or.inl (tw_6 (List.mem_of_getElem? (i := 76) rfl))⟩
theorem l_Turn_7 : xFl "PageScribe$Turn" 7 7 0 := ⟨_, rfl, by decide, _, Or.inl rfl, Or.inl (tw_6 (List.mem_of_getElem? (i := 77) rfl))⟩
theorem fp_7_0 : xFp 7 0 true := ⟨_, rfl, by decide, tw_6 (List.mem_of_getElem? (i := 80) rfl), by rfl, rfl⟩
theorem fo_Turn_7 : ∃ q : vw_C, xCl[7]? = some q ∧ (q.2.1 0).1 = "PageScribe$Turn" ∧ Cond.fieldLink "PageScribe$Turn" 7 "PageScribe$Turn" (q.2.1 0).2.1 (q.2.1 0).2.2.1 ∈ lw_tbl := ⟨_, rfl, rfl, tw_6 (List.mem_of_getElem? (i := 77) rfl)⟩
theorem l_Turn_13 : xFl "PageScribe$Turn" 13 7 1 := ⟨_, rfl, by decide, _, Or.inl rfl, Or.inl (tw_6 (List.mem_of_getElem? (i := 78) rfl))⟩
theorem fp_7_1 : xFp 7 1 true := ⟨_, rfl, by decide, tw_6 (List.mem_of_getElem? (i := 82) rfl), by rfl, rfl⟩
theorem fo_Turn_13 : ∃ q : vw_C, xCl[7]? = some q ∧ (q.2.1 1).1 = "PageScribe$Turn" ∧ Cond.fieldLink "PageScribe$Turn" 13 "PageScribe$Turn" (q.2.1 1).2.1 (q.2.1 1).2.2.1 ∈ lw_tbl := ⟨_, rfl, rfl, tw_6 (List.mem_of_getElem? (i := 78) rfl)⟩
theorem l_Turn_16 : xFl "PageScribe$Turn" 16 7 2 := ⟨_, rfl, by decide, _, Or.inl rfl, Or.inl (tw_6 (List.mem_of_getElem? (i := 79) rfl))⟩
theorem fp_7_2 : xFp 7 2 true := ⟨_, rfl, by decide, tw_6 (List.mem_of_getElem? (i := 84) rfl), by rfl, rfl⟩
theorem fo_Turn_16 : ∃ q : vw_C, xCl[7]? = some q ∧ (q.2.1 2).1 = "PageScribe$Turn" ∧ Cond.fieldLink "PageScribe$Turn" 16 "PageScribe$Turn" (q.2.1 2).2.1 (q.2.1 2).2.2.1 ∈ lw_tbl := ⟨_, rfl, rfl, tw_6 (List.mem_of_getElem? (i := 79) rfl)⟩
theorem l_P_311 : xFl "PageScribe" 311 0 16 := ⟨_, rfl, by decide, _, Or.inl rfl, Or.inl (tw_3 (List.mem_of_getElem? (i := 150) rfl))⟩
theorem l_P_314 : xFl "PageScribe" 314 0 15 := ⟨_, rfl, by decide, _, Or.inl rfl, Or.inl (tw_3 (List.mem_of_getElem? (i := 149) rfl))⟩
theorem fp_0_16 : xFp 0 16 false := ⟨_, rfl, by decide, tw_3 (List.mem_of_getElem? (i := 216) rfl), by rfl, rfl⟩
theorem cv_P_182 : xCv "PageScribe" 182 2 ⟨"PageScribe$Slot", "copy", "(LPageScribe$Slot;)V"⟩ 1 := ⟨⟨by decide +kernel, by decide +kernel⟩, xpar_of (by decide +kernel), tw_5 (List.mem_of_getElem? (i := 67) rfl), ⟨_, rfl, tw_5 (List.mem_of_getElem? (i := 68) rfl)⟩, Or.inl (tw_5 (List.mem_of_getElem? (i := 66) rfl))⟩
theorem cv_Turn_19 : xCv "PageScribe$Turn" 19 0 ⟨"PageScribe", "step", "()V"⟩ 0 := ⟨⟨by decide +kernel, by decide +kernel⟩, xpar_of (by decide +kernel), tw_5 (List.mem_of_getElem? (i := 124) rfl), ⟨_, rfl, List.mem_append_left _ (List.mem_of_getElem? (i := 19) (by decide +kernel))⟩, Or.inr ⟨_, tw_6 (List.mem_of_getElem? (i := 100) rfl)⟩⟩
theorem y_P_step : xY ⟨"PageScribe", "step", "()V"⟩ m_P_step := ⟨rfl, rfl, by decide +kernel, Or.inl ⟨rfl, tw_5 (List.mem_of_getElem? (i := 125) rfl)⟩⟩
theorem cv_Turn_24 : xCv "PageScribe$Turn" 24 0 ⟨"PageScribe", "push", "(LPageScribe$Slot;)V"⟩ 1 := ⟨⟨by decide +kernel, by decide +kernel⟩, xpar_of (by decide +kernel), tw_6 (List.mem_of_getElem? (i := 103) rfl), ⟨_, rfl, List.mem_append_left _ (List.mem_of_getElem? (i := 33) (by decide +kernel))⟩, Or.inr ⟨_, tw_6 (List.mem_of_getElem? (i := 101) rfl)⟩⟩
theorem y_P_push : xY ⟨"PageScribe", "push", "(LPageScribe$Slot;)V"⟩ m_P_push := ⟨rfl, rfl, by decide +kernel, Or.inl ⟨rfl, tw_6 (List.mem_of_getElem? (i := 104) rfl)⟩⟩
theorem cv_Turn_28 : xCv "PageScribe$Turn" 28 0 ⟨"PageScribe", "call", "(III)V"⟩ 3 := ⟨⟨by decide +kernel, by decide +kernel⟩, xpar_of (by decide +kernel), tw_5 (List.mem_of_getElem? (i := 181) rfl), ⟨_, rfl, List.mem_append_left _ (List.mem_of_getElem? (i := 24) (by decide +kernel))⟩, Or.inr ⟨_, tw_6 (List.mem_of_getElem? (i := 105) rfl)⟩⟩
theorem nw_Flow_30 : xNw "PageScribe$Flow" 30 2 8 := ⟨_, rfl, tw_6 (List.mem_of_getElem? (i := 93) rfl), tw_4 (List.mem_of_getElem? (i := 154) rfl), tw_1 (List.mem_of_getElem? (i := 36) rfl)⟩
theorem ci_Flow_131 : xCi "PageScribe$Flow" 131 ⟨"PageScribe$Slot", "<init>", "()V"⟩ 0 := ⟨rfl, ⟨by decide +kernel, by decide +kernel⟩, xpar_of (by decide +kernel), tw_4 (List.mem_of_getElem? (i := 156) rfl), Or.inr ⟨_, tw_6 (List.mem_of_getElem? (i := 94) rfl)⟩⟩
theorem l_Flow_64 : xFl "PageScribe$Flow" 64 0 24 := ⟨_, rfl, by decide, _, Or.inl rfl, Or.inr ⟨_, tw_3 (List.mem_of_getElem? (i := 162) rfl)⟩⟩
theorem sl_Flow_76 : xSl "PageScribe$Flow" 76 (vA 72) := ⟨_, List.mem_of_getElem? (i := 72) rfl, rfl, Or.inl (tw_5 (List.mem_of_getElem? (i := 211) rfl))⟩
theorem cv_Flow_132 : xCv "PageScribe$Flow" 132 2 ⟨"PageScribe$Slot", "set", "(LPageScribe$Kind;IIZ)V"⟩ 4 := ⟨⟨by decide +kernel, by decide +kernel⟩, xpar_of (by decide +kernel), tw_4 (List.mem_of_getElem? (i := 214) rfl), ⟨_, rfl, tw_4 (List.mem_of_getElem? (i := 215) rfl)⟩, Or.inl (tw_6 (List.mem_of_getElem? (i := 95) rfl))⟩
theorem cv_Flow_114 : xCv "PageScribe$Flow" 114 7 ⟨"PageScribe$Turn", "go", "(LPageScribe;LPageScribe$Slot;)V"⟩ 2 := ⟨⟨by decide +kernel, by decide +kernel⟩, xpar_of (by decide +kernel), tw_6 (List.mem_of_getElem? (i := 97) rfl), ⟨_, rfl, tw_6 (List.mem_of_getElem? (i := 98) rfl)⟩, Or.inl (tw_6 (List.mem_of_getElem? (i := 96) rfl))⟩
theorem y_Turn_go : xY ⟨"PageScribe$Turn", "go", "(LPageScribe;LPageScribe$Slot;)V"⟩ m_Turn_go := ⟨rfl, rfl, by decide +kernel, Or.inl ⟨rfl, tw_6 (List.mem_of_getElem? (i := 99) rfl)⟩⟩
theorem cw_Flow_9_19 : xCu "PageScribe$Flow" 9 19 ⟨"PageScribe$Op", "ordinal", "()I"⟩ ⟨"java/lang/Enum", "ordinal", "()I"⟩ "java/lang/Enum" 0 := ⟨tw_5 (List.mem_of_getElem? (i := 164) rfl), tw_5 (List.mem_of_getElem? (i := 165) rfl), ⟨by decide +kernel, by decide +kernel⟩, Or.inl (tw_5 (List.mem_of_getElem? (i := 166) rfl)), ⟨_, rfl, tw_5 (List.mem_of_getElem? (i := 167) rfl)⟩, tw_5 (List.mem_of_getElem? (i := 168) rfl), xpar_of (by decide +kernel)⟩
theorem y_Enum_ordinal : xY ⟨"java/lang/Enum", "ordinal", "()I"⟩ m_Enum_ordinal := ⟨rfl, rfl, by decide +kernel, Or.inl ⟨rfl, tw_5 (List.mem_of_getElem? (i := 169) rfl)⟩⟩
theorem cv_Flow_46 : xCv "PageScribe$Flow" 46 0 ⟨"PageScribe", "at", "(I)LPageScribe$Slot;"⟩ 1 := ⟨⟨by decide +kernel, by decide +kernel⟩, xpar_of (by decide +kernel), tw_4 (List.mem_of_getElem? (i := 227) rfl), ⟨_, rfl, List.mem_append_left _ (List.mem_of_getElem? (i := 6) (by decide +kernel))⟩, Or.inr ⟨_, tw_5 (List.mem_of_getElem? (i := 195) rfl)⟩⟩
theorem y_P_at : xY ⟨"PageScribe", "at", "(I)LPageScribe$Slot;"⟩ m_P_at := ⟨rfl, rfl, by decide +kernel, Or.inl ⟨rfl, tw_4 (List.mem_of_getElem? (i := 228) rfl)⟩⟩
theorem cv_Flow_29 : xCv "PageScribe$Flow" 29 2 ⟨"PageScribe$Slot", "is", "(LPageScribe$Kind;)Z"⟩ 1 := ⟨⟨by decide +kernel, by decide +kernel⟩, xpar_of (by decide +kernel), tw_4 (List.mem_of_getElem? (i := 232) rfl), ⟨_, rfl, tw_4 (List.mem_of_getElem? (i := 233) rfl)⟩, Or.inl (tw_5 (List.mem_of_getElem? (i := 189) rfl))⟩
theorem cv_Flow_39 : xCv "PageScribe$Flow" 39 0 ⟨"PageScribe", "type", "(Z)V"⟩ 1 := ⟨⟨by decide +kernel, by decide +kernel⟩, xpar_of (by decide +kernel), tw_5 (List.mem_of_getElem? (i := 193) rfl), ⟨_, rfl, List.mem_append_left _ (List.mem_of_getElem? (i := 26) (by decide +kernel))⟩, Or.inr ⟨_, tw_5 (List.mem_of_getElem? (i := 191) rfl)⟩⟩
theorem y_P_type : xY ⟨"PageScribe", "type", "(Z)V"⟩ m_P_type := ⟨rfl, rfl, by decide +kernel, Or.inl ⟨rfl, tw_5 (List.mem_of_getElem? (i := 194) rfl)⟩⟩
theorem l_Flow_15 : xFl "PageScribe$Flow" 15 0 9 := ⟨_, rfl, by decide, _, Or.inl rfl, Or.inr ⟨_, tw_3 (List.mem_of_getElem? (i := 137) rfl)⟩⟩
theorem l_Flow_43 : xFl "PageScribe$Flow" 43 2 2 := ⟨_, rfl, by decide, _, Or.inl rfl, Or.inr ⟨_, tw_4 (List.mem_of_getElem? (i := 172) rfl)⟩⟩
theorem cs_Flow_110 : xCt "PageScribe$Flow" 110 ⟨"PageScribe$Flow", "stretch", "(LPageScribe;JJJLPageScribe$Turn;)V"⟩ 5 := ⟨⟨by decide +kernel, by decide +kernel⟩, xpar_of (by decide +kernel), tw_6 (List.mem_of_getElem? (i := 91) rfl), tw_1 (List.mem_of_getElem? (i := 7) rfl), Or.inl (tw_6 (List.mem_of_getElem? (i := 90) rfl))⟩
theorem y_Flow_stretch : xY ⟨"PageScribe$Flow", "stretch", "(LPageScribe;JJJLPageScribe$Turn;)V"⟩ m_Flow_stretch := ⟨rfl, rfl, by decide +kernel, Or.inl ⟨rfl, tw_6 (List.mem_of_getElem? (i := 92) rfl)⟩⟩
theorem cv_Flow_60 : xCv "PageScribe$Flow" 60 0 ⟨"PageScribe", "need", "(ZI)V"⟩ 2 := ⟨⟨by decide +kernel, by decide +kernel⟩, xpar_of (by decide +kernel), tw_4 (List.mem_of_getElem? (i := 131) rfl), ⟨_, rfl, List.mem_append_left _ (List.mem_of_getElem? (i := 5) (by decide +kernel))⟩, Or.inr ⟨_, tw_5 (List.mem_of_getElem? (i := 196) rfl)⟩⟩
theorem sl_Flow_118 : xSl "PageScribe$Flow" 118 (vA 77) := ⟨_, List.mem_of_getElem? (i := 77) rfl, rfl, Or.inl (tw_6 (List.mem_of_getElem? (i := 106) rfl))⟩
theorem l_Flow_98 : xFl "PageScribe$Flow" 98 2 3 := ⟨_, rfl, by decide, _, Or.inl rfl, Or.inr ⟨_, tw_4 (List.mem_of_getElem? (i := 179) rfl)⟩⟩
theorem cv_Flow_121 : xCv "PageScribe$Flow" 121 0 ⟨"PageScribe", "enter", "(II)V"⟩ 2 := ⟨⟨by decide +kernel, by decide +kernel⟩, xpar_of (by decide +kernel), tw_5 (List.mem_of_getElem? (i := 185) rfl), ⟨_, rfl, List.mem_append_left _ (List.mem_of_getElem? (i := 25) (by decide +kernel))⟩, Or.inr ⟨_, tw_6 (List.mem_of_getElem? (i := 107) rfl)⟩⟩
theorem l_Flow_125 : xFl "PageScribe$Flow" 125 0 7 := ⟨_, rfl, by decide, _, Or.inl rfl, Or.inr ⟨_, tw_3 (List.mem_of_getElem? (i := 133) rfl)⟩⟩
theorem l_Flow_128 : xFl "PageScribe$Flow" 128 0 21 := ⟨_, rfl, by decide, _, Or.inl rfl, Or.inr ⟨_, tw_3 (List.mem_of_getElem? (i := 156) rfl)⟩⟩
theorem cv_Flow_19 : xCv "PageScribe$Flow" 19 0 ⟨"PageScribe", "execute", "(LPageScribe$Slot;I)V"⟩ 2 := ⟨⟨by decide +kernel, by decide +kernel⟩, xpar_of (by decide +kernel), tw_5 (List.mem_of_getElem? (i := 172) rfl), ⟨_, rfl, List.mem_append_left _ (List.mem_of_getElem? (i := 23) (by decide +kernel))⟩, Or.inr ⟨_, tw_5 (List.mem_of_getElem? (i := 170) rfl)⟩⟩
theorem sl_Flow_23 : xSl "PageScribe$Flow" 23 (vA 74) := ⟨_, List.mem_of_getElem? (i := 74) rfl, rfl, Or.inl (tw_5 (List.mem_of_getElem? (i := 187) rfl))⟩
theorem cv_Flow_35 : xCv "PageScribe$Flow" 35 2 ⟨"PageScribe$Slot", "isProcedure", "()Z"⟩ 0 := ⟨⟨by decide +kernel, by decide +kernel⟩, xpar_of (by decide +kernel), tw_5 (List.mem_of_getElem? (i := 175) rfl), ⟨_, rfl, tw_5 (List.mem_of_getElem? (i := 176) rfl)⟩, Or.inl (tw_5 (List.mem_of_getElem? (i := 190) rfl))⟩
theorem l_Flow_50 : xFl "PageScribe$Flow" 50 0 6 := ⟨_, rfl, by decide, _, Or.inl rfl, Or.inr ⟨_, tw_3 (List.mem_of_getElem? (i := 129) rfl)⟩⟩
theorem l_Flow_54 : xFl "PageScribe$Flow" 54 0 22 := ⟨_, rfl, by decide, _, Or.inl rfl, Or.inr ⟨_, tw_3 (List.mem_of_getElem? (i := 158) rfl)⟩⟩
theorem l_Flow_57 : xFl "PageScribe$Flow" 57 0 23 := ⟨_, rfl, by decide, _, Or.inl rfl, Or.inr ⟨_, tw_3 (List.mem_of_getElem? (i := 160) rfl)⟩⟩
theorem cv_Flow_68 : xCv "PageScribe$Flow" 68 0 ⟨"PageScribe", "fails", "(LPageScribe$Slot;I)Z"⟩ 2 := ⟨⟨by decide +kernel, by decide +kernel⟩, xpar_of (by decide +kernel), tw_5 (List.mem_of_getElem? (i := 199) rfl), ⟨_, rfl, List.mem_append_left _ (List.mem_of_getElem? (i := 27) (by decide +kernel))⟩, Or.inr ⟨_, tw_5 (List.mem_of_getElem? (i := 197) rfl)⟩⟩
theorem y_P_fails : xY ⟨"PageScribe", "fails", "(LPageScribe$Slot;I)Z"⟩ m_P_fails := ⟨rfl, rfl, by decide +kernel, Or.inr (tw_5 (List.mem_of_getElem? (i := 200) rfl))⟩
theorem cv_Flow_72 : xCv "PageScribe$Flow" 72 0 ⟨"PageScribe", "truth", "(IZ)V"⟩ 2 := ⟨⟨by decide +kernel, by decide +kernel⟩, xpar_of (by decide +kernel), tw_5 (List.mem_of_getElem? (i := 204) rfl), ⟨_, rfl, List.mem_append_left _ (List.mem_of_getElem? (i := 28) (by decide +kernel))⟩, Or.inr ⟨_, tw_5 (List.mem_of_getElem? (i := 202) rfl)⟩⟩
theorem y_P_truth : xY ⟨"PageScribe", "truth", "(IZ)V"⟩ m_P_truth := ⟨rfl, rfl, by decide +kernel, Or.inl ⟨rfl, tw_5 (List.mem_of_getElem? (i := 205) rfl)⟩⟩
theorem l_Flow_79 : xFl "PageScribe$Flow" 79 0 18 := ⟨_, rfl, by decide, _, Or.inl rfl, Or.inr ⟨_, tw_3 (List.mem_of_getElem? (i := 152) rfl)⟩⟩
theorem cv_Flow_82 : xCv "PageScribe$Flow" 82 0 ⟨"PageScribe", "give", "(ILPageScribe$Kind;I)V"⟩ 3 := ⟨⟨by decide +kernel, by decide +kernel⟩, xpar_of (by decide +kernel), tw_5 (List.mem_of_getElem? (i := 209) rfl), ⟨_, rfl, List.mem_append_left _ (List.mem_of_getElem? (i := 29) (by decide +kernel))⟩, Or.inr ⟨_, tw_5 (List.mem_of_getElem? (i := 212) rfl)⟩⟩
theorem cv_Flow_86 : xCv "PageScribe$Flow" 86 0 ⟨"PageScribe", "save", "()V"⟩ 0 := ⟨⟨by decide +kernel, by decide +kernel⟩, xpar_of (by decide +kernel), tw_5 (List.mem_of_getElem? (i := 215) rfl), ⟨_, rfl, List.mem_append_left _ (List.mem_of_getElem? (i := 30) (by decide +kernel))⟩, Or.inr ⟨_, tw_5 (List.mem_of_getElem? (i := 213) rfl)⟩⟩
theorem y_P_save : xY ⟨"PageScribe", "save", "()V"⟩ m_P_save := ⟨rfl, rfl, by decide +kernel, Or.inl ⟨rfl, tw_5 (List.mem_of_getElem? (i := 216) rfl)⟩⟩
theorem sl_Flow_89 : xSl "PageScribe$Flow" 89 (vA 79) := ⟨_, List.mem_of_getElem? (i := 79) rfl, rfl, Or.inl (tw_5 (List.mem_of_getElem? (i := 237) rfl))⟩
theorem cv_Flow_92 : xCv "PageScribe$Flow" 92 0 ⟨"PageScribe", "restore", "(I)V"⟩ 1 := ⟨⟨by decide +kernel, by decide +kernel⟩, xpar_of (by decide +kernel), tw_6 (List.mem_of_getElem? (i := 0) rfl), ⟨_, rfl, List.mem_append_left _ (List.mem_of_getElem? (i := 31) (by decide +kernel))⟩, Or.inr ⟨_, tw_5 (List.mem_of_getElem? (i := 238) rfl)⟩⟩
theorem y_P_restore : xY ⟨"PageScribe", "restore", "(I)V"⟩ m_P_restore := ⟨rfl, rfl, by decide +kernel, Or.inl ⟨rfl, tw_6 (List.mem_of_getElem? (i := 1) rfl)⟩⟩
theorem nw_Flow_96 : xNw "PageScribe$Flow" 96 7 3 := ⟨_, rfl, tw_6 (List.mem_of_getElem? (i := 71) rfl), tw_6 (List.mem_of_getElem? (i := 72) rfl), tw_1 (List.mem_of_getElem? (i := 40) rfl)⟩
theorem ly_7 : xLy 7 := ⟨_, rfl, fun k h => match k, h with | 0, _ => ⟨tw_6 (List.mem_of_getElem? (i := 80) rfl), rfl⟩ | 1, _ => ⟨tw_6 (List.mem_of_getElem? (i := 82) rfl), rfl⟩ | 2, _ => ⟨tw_6 (List.mem_of_getElem? (i := 84) rfl), rfl⟩ | k + 3, h => absurd h (by show ¬ k + 3 < 3; omega)⟩
theorem ci_Flow_101 : xCi "PageScribe$Flow" 101 ⟨"PageScribe$Turn", "<init>", "(III)V"⟩ 3 := ⟨rfl, ⟨by decide +kernel, by decide +kernel⟩, xpar_of (by decide +kernel), tw_6 (List.mem_of_getElem? (i := 74) rfl), Or.inr ⟨_, tw_6 (List.mem_of_getElem? (i := 73) rfl)⟩⟩
theorem y_Turn_init : xY ⟨"PageScribe$Turn", "<init>", "(III)V"⟩ m_Turn_init := ⟨rfl, rfl, by decide +kernel, Or.inl ⟨rfl, tw_6 (List.mem_of_getElem? (i := 75) rfl)⟩⟩
theorem cs_Flow_104 : xCt "PageScribe$Flow" 104 ⟨"PageScribe$Flow", "turns", "(LPageScribe;LPageScribe$Op;LPageScribe$Slot;LPageScribe$Slot;LPageScribe$Turn;)V"⟩ 5 := ⟨⟨by decide +kernel, by decide +kernel⟩, xpar_of (by decide +kernel), tw_6 (List.mem_of_getElem? (i := 88) rfl), tw_1 (List.mem_of_getElem? (i := 7) rfl), Or.inl (tw_6 (List.mem_of_getElem? (i := 87) rfl))⟩
theorem y_Flow_turns : xY ⟨"PageScribe$Flow", "turns", "(LPageScribe;LPageScribe$Op;LPageScribe$Slot;LPageScribe$Slot;LPageScribe$Turn;)V"⟩ m_Flow_turns := ⟨rfl, rfl, by decide +kernel, Or.inl ⟨rfl, tw_6 (List.mem_of_getElem? (i := 89) rfl)⟩⟩
theorem sl_P_190 : xSl "PageScribe" 190 (vA 78) := ⟨_, List.mem_of_getElem? (i := 78) rfl, rfl, Or.inl (tw_6 (List.mem_of_getElem? (i := 215) rfl))⟩
theorem cv_P_203 : xCv "PageScribe" 203 0 ⟨"PageScribe", "at", "(I)LPageScribe$Slot;"⟩ 1 := ⟨⟨by decide +kernel, by decide +kernel⟩, xpar_of (by decide +kernel), tw_4 (List.mem_of_getElem? (i := 227) rfl), ⟨_, rfl, List.mem_append_left _ (List.mem_of_getElem? (i := 6) (by decide +kernel))⟩, Or.inl (tw_4 (List.mem_of_getElem? (i := 225) rfl))⟩
theorem l_P_206 : xFl "PageScribe" 206 2 7 := ⟨_, rfl, by decide, _, Or.inl rfl, Or.inr ⟨_, tw_4 (List.mem_of_getElem? (i := 189) rfl)⟩⟩
theorem ci_Rewritten_1 : xCi "PageScribe$Rewritten" 1 ⟨"java/lang/Record", "<init>", "()V"⟩ 0 := ⟨rfl, ⟨by decide +kernel, by decide +kernel⟩, xpar_of (by decide +kernel), tw_3 (List.mem_of_getElem? (i := 14) rfl), Or.inl (tw_6 (List.mem_of_getElem? (i := 143) rfl))⟩
theorem fp_8_0 : xFp 8 0 true := ⟨_, rfl, by decide, tw_6 (List.mem_of_getElem? (i := 148) rfl), by rfl, rfl⟩
theorem fo_Rewritten_7 : ∃ q : vw_C, xCl[8]? = some q ∧ (q.2.1 0).1 = "PageScribe$Rewritten" ∧ Cond.fieldLink "PageScribe$Rewritten" 7 "PageScribe$Rewritten" (q.2.1 0).2.1 (q.2.1 0).2.2.1 ∈ lw_tbl := ⟨_, rfl, rfl, tw_6 (List.mem_of_getElem? (i := 144) rfl)⟩
theorem fp_8_1 : xFp 8 1 true := ⟨_, rfl, by decide, tw_6 (List.mem_of_getElem? (i := 150) rfl), by rfl, rfl⟩
theorem fo_Rewritten_13 : ∃ q : vw_C, xCl[8]? = some q ∧ (q.2.1 1).1 = "PageScribe$Rewritten" ∧ Cond.fieldLink "PageScribe$Rewritten" 13 "PageScribe$Rewritten" (q.2.1 1).2.1 (q.2.1 1).2.2.1 ∈ lw_tbl := ⟨_, rfl, rfl, tw_6 (List.mem_of_getElem? (i := 145) rfl)⟩
theorem fp_8_2 : xFp 8 2 true := ⟨_, rfl, by decide, tw_6 (List.mem_of_getElem? (i := 152) rfl), by rfl, rfl⟩
theorem fo_Rewritten_17 : ∃ q : vw_C, xCl[8]? = some q ∧ (q.2.1 2).1 = "PageScribe$Rewritten" ∧ Cond.fieldLink "PageScribe$Rewritten" 17 "PageScribe$Rewritten" (q.2.1 2).2.1 (q.2.1 2).2.2.1 ∈ lw_tbl := ⟨_, rfl, rfl, tw_6 (List.mem_of_getElem? (i := 146) rfl)⟩
theorem fp_8_3 : xFp 8 3 true := ⟨_, rfl, by decide, tw_6 (List.mem_of_getElem? (i := 154) rfl), by rfl, rfl⟩
theorem fo_Rewritten_20 : ∃ q : vw_C, xCl[8]? = some q ∧ (q.2.1 3).1 = "PageScribe$Rewritten" ∧ Cond.fieldLink "PageScribe$Rewritten" 20 "PageScribe$Rewritten" (q.2.1 3).2.1 (q.2.1 3).2.2.1 ∈ lw_tbl := ⟨_, rfl, rfl, tw_6 (List.mem_of_getElem? (i := 147) rfl)⟩
theorem l_P_237 : xFl "PageScribe" 237 2 4 := ⟨_, rfl, by decide, _, Or.inl rfl, Or.inr ⟨_, tw_4 (List.mem_of_getElem? (i := 182) rfl)⟩⟩
theorem nw_P_240 : xNw "PageScribe" 240 8 4 := ⟨_, rfl, tw_6 (List.mem_of_getElem? (i := 138) rfl), tw_6 (List.mem_of_getElem? (i := 139) rfl), tw_1 (List.mem_of_getElem? (i := 41) rfl)⟩
theorem ly_8 : xLy 8 := ⟨_, rfl, fun k h => match k, h with | 0, _ => ⟨tw_6 (List.mem_of_getElem? (i := 148) rfl), rfl⟩ | 1, _ => ⟨tw_6 (List.mem_of_getElem? (i := 150) rfl), rfl⟩ | 2, _ => ⟨tw_6 (List.mem_of_getElem? (i := 152) rfl), rfl⟩ | 3, _ => ⟨tw_6 (List.mem_of_getElem? (i := 154) rfl), rfl⟩ | k + 4, h => absurd h (by show ¬ k + 4 < 4; omega)⟩
theorem ci_P_246 : xCi "PageScribe" 246 ⟨"PageScribe$Rewritten", "<init>", "(LPageScribe$Change;LPageScribe$Slot;LPageScribe$Slot;I)V"⟩ 4 := ⟨rfl, ⟨by decide +kernel, by decide +kernel⟩, xpar_of (by decide +kernel), tw_6 (List.mem_of_getElem? (i := 141) rfl), Or.inr ⟨_, tw_6 (List.mem_of_getElem? (i := 140) rfl)⟩⟩
theorem y_Rewritten_init : xY ⟨"PageScribe$Rewritten", "<init>", "(LPageScribe$Change;LPageScribe$Slot;LPageScribe$Slot;I)V"⟩ m_Rewritten_init := ⟨rfl, rfl, by decide +kernel, Or.inl ⟨rfl, tw_6 (List.mem_of_getElem? (i := 142) rfl)⟩⟩
theorem cv_P_249 : xCv "PageScribe" 249 4 ⟨"PageScribe$Dict", "find", "(LPageScribe$Name;)LPageScribe$Slot;"⟩ 1 := ⟨⟨by decide +kernel, by decide +kernel⟩, xpar_of (by decide +kernel), tw_5 (List.mem_of_getElem? (i := 135) rfl), ⟨_, rfl, tw_5 (List.mem_of_getElem? (i := 136) rfl)⟩, Or.inl (tw_5 (List.mem_of_getElem? (i := 134) rfl))⟩
theorem y_Dict_find : xY ⟨"PageScribe$Dict", "find", "(LPageScribe$Name;)LPageScribe$Slot;"⟩ m_Dict_find := ⟨rfl, rfl, by decide +kernel, Or.inl ⟨rfl, tw_5 (List.mem_of_getElem? (i := 137) rfl)⟩⟩
theorem l_P_253 : xFl "PageScribe" 253 4 2 := ⟨_, rfl, by decide, _, Or.inl rfl, Or.inr ⟨_, tw_3 (List.mem_of_getElem? (i := 40) rfl)⟩⟩
theorem l_P_256 : xFl "PageScribe" 256 4 1 := ⟨_, rfl, by decide, _, Or.inl rfl, Or.inr ⟨_, tw_3 (List.mem_of_getElem? (i := 37) rfl)⟩⟩
theorem cv_P_259 : xCv "PageScribe" 259 4 ⟨"PageScribe$Dict", "add", "(LPageScribe$Name;)LPageScribe$Slot;"⟩ 1 := ⟨⟨by decide +kernel, by decide +kernel⟩, xpar_of (by decide +kernel), tw_6 (List.mem_of_getElem? (i := 162) rfl), ⟨_, rfl, tw_6 (List.mem_of_getElem? (i := 163) rfl)⟩, Or.inl (tw_6 (List.mem_of_getElem? (i := 161) rfl))⟩
theorem y_Dict_add : xY ⟨"PageScribe$Dict", "add", "(LPageScribe$Name;)LPageScribe$Slot;"⟩ m_Dict_add := ⟨rfl, rfl, by decide +kernel, Or.inl ⟨rfl, tw_6 (List.mem_of_getElem? (i := 164) rfl)⟩⟩
theorem nw_P_261 : xNw "PageScribe" 261 9 2 := ⟨_, rfl, tw_6 (List.mem_of_getElem? (i := 183) rfl), tw_6 (List.mem_of_getElem? (i := 184) rfl), tw_1 (List.mem_of_getElem? (i := 43) rfl)⟩
theorem ly_9 : xLy 9 := ⟨_, rfl, fun k h => match k, h with | 0, _ => ⟨tw_6 (List.mem_of_getElem? (i := 191) rfl), rfl⟩ | 1, _ => ⟨tw_6 (List.mem_of_getElem? (i := 193) rfl), rfl⟩ | k + 2, h => absurd h (by show ¬ k + 2 < 2; omega)⟩
theorem ci_P_263 : xCi "PageScribe" 263 ⟨"PageScribe$Added", "<init>", "(LPageScribe$Change;LPageScribe$Dict;)V"⟩ 2 := ⟨rfl, ⟨by decide +kernel, by decide +kernel⟩, xpar_of (by decide +kernel), tw_6 (List.mem_of_getElem? (i := 186) rfl), Or.inr ⟨_, tw_6 (List.mem_of_getElem? (i := 185) rfl)⟩⟩
theorem y_Added_init : xY ⟨"PageScribe$Added", "<init>", "(LPageScribe$Change;LPageScribe$Dict;)V"⟩ m_Added_init := ⟨rfl, rfl, by decide +kernel, Or.inl ⟨rfl, tw_6 (List.mem_of_getElem? (i := 187) rfl)⟩⟩
theorem cv_P_266 : xCv "PageScribe" 266 0 ⟨"PageScribe", "rewrite", "(LPageScribe$Slot;LPageScribe$Slot;)V"⟩ 2 := ⟨⟨by decide +kernel, by decide +kernel⟩, xpar_of (by decide +kernel), tw_6 (List.mem_of_getElem? (i := 136) rfl), ⟨_, rfl, List.mem_append_left _ (List.mem_of_getElem? (i := 35) (by decide +kernel))⟩, Or.inl (tw_6 (List.mem_of_getElem? (i := 196) rfl))⟩
theorem y_P_rewrite : xY ⟨"PageScribe", "rewrite", "(LPageScribe$Slot;LPageScribe$Slot;)V"⟩ m_P_rewrite := ⟨rfl, rfl, by decide +kernel, Or.inl ⟨rfl, tw_6 (List.mem_of_getElem? (i := 137) rfl)⟩⟩
theorem l_Holders_131 : xFl "PageScribe$Holders" 131 0 13 := ⟨_, rfl, by decide, _, Or.inl rfl, Or.inr ⟨_, tw_3 (List.mem_of_getElem? (i := 146) rfl)⟩⟩
theorem l_Holders_135 : xFl "PageScribe$Holders" 135 0 14 := ⟨_, rfl, by decide, _, Or.inl rfl, Or.inr ⟨_, tw_3 (List.mem_of_getElem? (i := 148) rfl)⟩⟩
theorem cw_Holders_9_19 : xCu "PageScribe$Holders" 9 19 ⟨"PageScribe$Op", "ordinal", "()I"⟩ ⟨"java/lang/Enum", "ordinal", "()I"⟩ "java/lang/Enum" 0 := ⟨tw_6 (List.mem_of_getElem? (i := 111) rfl), tw_5 (List.mem_of_getElem? (i := 165) rfl), ⟨by decide +kernel, by decide +kernel⟩, Or.inl (tw_5 (List.mem_of_getElem? (i := 166) rfl)), ⟨_, rfl, tw_5 (List.mem_of_getElem? (i := 167) rfl)⟩, tw_5 (List.mem_of_getElem? (i := 168) rfl), xpar_of (by decide +kernel)⟩
theorem sl_Holders_15 : xSl "PageScribe$Holders" 15 (vA 72) := ⟨_, List.mem_of_getElem? (i := 72) rfl, rfl, Or.inl (tw_6 (List.mem_of_getElem? (i := 112) rfl))⟩
theorem cv_Holders_21 : xCv "PageScribe$Holders" 21 2 ⟨"PageScribe$Slot", "is", "(LPageScribe$Kind;)Z"⟩ 1 := ⟨⟨by decide +kernel, by decide +kernel⟩, xpar_of (by decide +kernel), tw_4 (List.mem_of_getElem? (i := 232) rfl), ⟨_, rfl, tw_4 (List.mem_of_getElem? (i := 233) rfl)⟩, Or.inl (tw_6 (List.mem_of_getElem? (i := 113) rfl))⟩
theorem cv_Holders_27 : xCv "PageScribe$Holders" 27 0 ⟨"PageScribe", "type", "(Z)V"⟩ 1 := ⟨⟨by decide +kernel, by decide +kernel⟩, xpar_of (by decide +kernel), tw_5 (List.mem_of_getElem? (i := 193) rfl), ⟨_, rfl, List.mem_append_left _ (List.mem_of_getElem? (i := 26) (by decide +kernel))⟩, Or.inr ⟨_, tw_6 (List.mem_of_getElem? (i := 114) rfl)⟩⟩
theorem l_Holders_31 : xFl "PageScribe$Holders" 31 2 2 := ⟨_, rfl, by decide, _, Or.inl rfl, Or.inr ⟨_, tw_4 (List.mem_of_getElem? (i := 170) rfl)⟩⟩
theorem cv_Holders_35 : xCv "PageScribe$Holders" 35 0 ⟨"PageScribe", "need", "(ZI)V"⟩ 2 := ⟨⟨by decide +kernel, by decide +kernel⟩, xpar_of (by decide +kernel), tw_4 (List.mem_of_getElem? (i := 131) rfl), ⟨_, rfl, List.mem_append_left _ (List.mem_of_getElem? (i := 5) (by decide +kernel))⟩, Or.inr ⟨_, tw_6 (List.mem_of_getElem? (i := 115) rfl)⟩⟩
theorem l_Holders_138 : xFl "PageScribe$Holders" 138 0 12 := ⟨_, rfl, by decide, _, Or.inl rfl, Or.inr ⟨_, tw_3 (List.mem_of_getElem? (i := 144) rfl)⟩⟩
theorem cv_Holders_141 : xCv "PageScribe$Holders" 141 17 ⟨"java/util/ArrayList", "size", "()I"⟩ 0 := ⟨⟨by decide +kernel, by decide +kernel⟩, xpar_of (by decide +kernel), tw_5 (List.mem_of_getElem? (i := 4) rfl), ⟨_, rfl, tw_5 (List.mem_of_getElem? (i := 5) rfl)⟩, Or.inl (tw_6 (List.mem_of_getElem? (i := 206) rfl))⟩
theorem nw_Holders_61 : xNw "PageScribe$Holders" 61 4 4 := ⟨_, rfl, tw_6 (List.mem_of_getElem? (i := 207) rfl), tw_3 (List.mem_of_getElem? (i := 29) rfl), tw_1 (List.mem_of_getElem? (i := 29) rfl)⟩
theorem ly_4 : xLy 4 := ⟨_, rfl, fun k h => match k, h with | 0, _ => ⟨tw_3 (List.mem_of_getElem? (i := 42) rfl), rfl⟩ | 1, _ => ⟨tw_3 (List.mem_of_getElem? (i := 44) rfl), rfl⟩ | 2, _ => ⟨tw_3 (List.mem_of_getElem? (i := 46) rfl), rfl⟩ | 3, _ => ⟨tw_3 (List.mem_of_getElem? (i := 48) rfl), rfl⟩ | k + 4, h => absurd h (by show ¬ k + 4 < 4; omega)⟩
theorem ci_Holders_145 : xCi "PageScribe$Holders" 145 ⟨"PageScribe$Dict", "<init>", "(II)V"⟩ 2 := ⟨rfl, ⟨by decide +kernel, by decide +kernel⟩, xpar_of (by decide +kernel), tw_3 (List.mem_of_getElem? (i := 31) rfl), Or.inl (tw_6 (List.mem_of_getElem? (i := 208) rfl))⟩
theorem y_Dict_init : xY ⟨"PageScribe$Dict", "<init>", "(II)V"⟩ m_Dict_init := ⟨rfl, rfl, by decide +kernel, Or.inl ⟨rfl, tw_3 (List.mem_of_getElem? (i := 32) rfl)⟩⟩
theorem cv_Holders_148 : xCv "PageScribe$Holders" 148 17 ⟨"java/util/ArrayList", "add", "(Ljava/lang/Object;)Z"⟩ 1 := ⟨⟨by decide +kernel, by decide +kernel⟩, xpar_of (by decide +kernel), tw_3 (List.mem_of_getElem? (i := 52) rfl), ⟨_, rfl, tw_3 (List.mem_of_getElem? (i := 53) rfl)⟩, Or.inl (tw_6 (List.mem_of_getElem? (i := 209) rfl))⟩
theorem y_ArrayList_add0 : xY ⟨"java/util/ArrayList", "add", "(Ljava/lang/Object;)Z"⟩ m_ArrayList_add0 := ⟨rfl, rfl, by decide +kernel, Or.inl ⟨rfl, tw_3 (List.mem_of_getElem? (i := 54) rfl)⟩⟩
theorem cv_Holders_152 : xCv "PageScribe$Holders" 152 17 ⟨"java/util/ArrayList", "get", "(I)Ljava/lang/Object;"⟩ 1 := ⟨⟨by decide +kernel, by decide +kernel⟩, xpar_of (by decide +kernel), tw_3 (List.mem_of_getElem? (i := 111) rfl), ⟨_, rfl, tw_3 (List.mem_of_getElem? (i := 112) rfl)⟩, Or.inl (tw_6 (List.mem_of_getElem? (i := 210) rfl))⟩
theorem y_ArrayList_get : xY ⟨"java/util/ArrayList", "get", "(I)Ljava/lang/Object;"⟩ m_ArrayList_get := ⟨rfl, rfl, by decide +kernel, Or.inl ⟨rfl, tw_3 (List.mem_of_getElem? (i := 113) rfl)⟩⟩
theorem kl_Holders_61 : Cond.classLink "PageScribe$Holders" 61 "PageScribe$Dict" ∈ lw_tbl := tw_6 (List.mem_of_getElem? (i := 207) rfl)
theorem cv_Holders_155 : xCv "PageScribe$Holders" 155 0 ⟨"PageScribe", "giveDict", "(ILPageScribe$Dict;)V"⟩ 2 := ⟨⟨by decide +kernel, by decide +kernel⟩, xpar_of (by decide +kernel), tw_6 (List.mem_of_getElem? (i := 213) rfl), ⟨_, rfl, List.mem_append_left _ (List.mem_of_getElem? (i := 37) (by decide +kernel))⟩, Or.inr ⟨_, tw_6 (List.mem_of_getElem? (i := 211) rfl)⟩⟩
theorem y_P_giveDict : xY ⟨"PageScribe", "giveDict", "(ILPageScribe$Dict;)V"⟩ m_P_giveDict := ⟨rfl, rfl, by decide +kernel, Or.inl ⟨rfl, tw_6 (List.mem_of_getElem? (i := 214) rfl)⟩⟩
theorem sl_Holders_50 : xSl "PageScribe$Holders" 50 (vA 78) := ⟨_, List.mem_of_getElem? (i := 78) rfl, rfl, Or.inl (tw_6 (List.mem_of_getElem? (i := 119) rfl))⟩
theorem fp_0_14 : xFp 0 14 false := ⟨_, rfl, by decide, tw_3 (List.mem_of_getElem? (i := 212) rfl), by rfl, rfl⟩
theorem l_Holders_56 : xFl "PageScribe$Holders" 56 2 7 := ⟨_, rfl, by decide, _, Or.inl rfl, Or.inr ⟨_, tw_4 (List.mem_of_getElem? (i := 187) rfl)⟩⟩
theorem l_Holders_83 : xFl "PageScribe$Holders" 83 0 9 := ⟨_, rfl, by decide, _, Or.inl rfl, Or.inr ⟨_, tw_3 (List.mem_of_getElem? (i := 138) rfl)⟩⟩
theorem sl_Holders_98 : xSl "PageScribe$Holders" 98 (vA 75) := ⟨_, List.mem_of_getElem? (i := 75) rfl, rfl, Or.inl (tw_6 (List.mem_of_getElem? (i := 124) rfl))⟩
theorem l_Holders_105 : xFl "PageScribe$Holders" 105 2 6 := ⟨_, rfl, by decide, _, Or.inl rfl, Or.inr ⟨_, tw_4 (List.mem_of_getElem? (i := 184) rfl)⟩⟩
theorem cv_Holders_120 : xCv "PageScribe$Holders" 120 0 ⟨"PageScribe", "define", "(LPageScribe$Dict;LPageScribe$Name;LPageScribe$Slot;)V"⟩ 3 := ⟨⟨by decide +kernel, by decide +kernel⟩, xpar_of (by decide +kernel), tw_6 (List.mem_of_getElem? (i := 159) rfl), ⟨_, rfl, List.mem_append_left _ (List.mem_of_getElem? (i := 36) (by decide +kernel))⟩, Or.inr ⟨_, tw_6 (List.mem_of_getElem? (i := 157) rfl)⟩⟩
theorem y_P_define : xY ⟨"PageScribe", "define", "(LPageScribe$Dict;LPageScribe$Name;LPageScribe$Slot;)V"⟩ m_P_define := ⟨rfl, rfl, by decide +kernel, Or.inl ⟨rfl, tw_6 (List.mem_of_getElem? (i := 160) rfl)⟩⟩
theorem cv_Holders_159 : xCv "PageScribe$Holders" 159 0 ⟨"PageScribe", "find", "(LPageScribe$Name;)LPageScribe$Slot;"⟩ 1 := ⟨⟨by decide +kernel, by decide +kernel⟩, xpar_of (by decide +kernel), tw_5 (List.mem_of_getElem? (i := 132) rfl), ⟨_, rfl, List.mem_append_left _ (List.mem_of_getElem? (i := 21) (by decide +kernel))⟩, Or.inr ⟨_, tw_6 (List.mem_of_getElem? (i := 216) rfl)⟩⟩
theorem y_P_find : xY ⟨"PageScribe", "find", "(LPageScribe$Name;)LPageScribe$Slot;"⟩ m_P_find := ⟨rfl, rfl, by decide +kernel, Or.inl ⟨rfl, tw_5 (List.mem_of_getElem? (i := 133) rfl)⟩⟩
theorem cv_Holders_113 : xCv "PageScribe$Holders" 113 0 ⟨"PageScribe", "found", "(LPageScribe$Slot;LPageScribe$Slot;)V"⟩ 2 := ⟨⟨by decide +kernel, by decide +kernel⟩, xpar_of (by decide +kernel), tw_6 (List.mem_of_getElem? (i := 128) rfl), ⟨_, rfl, List.mem_append_left _ (List.mem_of_getElem? (i := 34) (by decide +kernel))⟩, Or.inr ⟨_, tw_6 (List.mem_of_getElem? (i := 126) rfl)⟩⟩
theorem y_P_found : xY ⟨"PageScribe", "found", "(LPageScribe$Slot;LPageScribe$Slot;)V"⟩ m_P_found := ⟨rfl, rfl, by decide +kernel, Or.inl ⟨rfl, tw_6 (List.mem_of_getElem? (i := 129) rfl)⟩⟩
theorem cv_Holders_109 : xCv "PageScribe$Holders" 109 4 ⟨"PageScribe$Dict", "find", "(LPageScribe$Name;)LPageScribe$Slot;"⟩ 1 := ⟨⟨by decide +kernel, by decide +kernel⟩, xpar_of (by decide +kernel), tw_5 (List.mem_of_getElem? (i := 135) rfl), ⟨_, rfl, tw_5 (List.mem_of_getElem? (i := 136) rfl)⟩, Or.inl (tw_6 (List.mem_of_getElem? (i := 125) rfl))⟩
theorem cv_Holders_160 : xCv "PageScribe$Holders" 160 0 ⟨"PageScribe", "truth", "(IZ)V"⟩ 2 := ⟨⟨by decide +kernel, by decide +kernel⟩, xpar_of (by decide +kernel), tw_5 (List.mem_of_getElem? (i := 204) rfl), ⟨_, rfl, List.mem_append_left _ (List.mem_of_getElem? (i := 28) (by decide +kernel))⟩, Or.inr ⟨_, tw_6 (List.mem_of_getElem? (i := 217) rfl)⟩⟩
theorem sl_Holders_39 : xSl "PageScribe$Holders" 39 (vA 77) := ⟨_, List.mem_of_getElem? (i := 77) rfl, rfl, Or.inl (tw_6 (List.mem_of_getElem? (i := 116) rfl))⟩
theorem l_Holders_53 : xFl "PageScribe$Holders" 53 2 3 := ⟨_, rfl, by decide, _, Or.inl rfl, Or.inr ⟨_, tw_4 (List.mem_of_getElem? (i := 178) rfl)⟩⟩
theorem l_Holders_101 : xFl "PageScribe$Holders" 101 0 7 := ⟨_, rfl, by decide, _, Or.inl rfl, Or.inr ⟨_, tw_3 (List.mem_of_getElem? (i := 132) rfl)⟩⟩
theorem ci_Holders_3 : xCi "PageScribe$Holders" 3 ⟨"PageScribe$Group", "<init>", "()V"⟩ 0 := ⟨rfl, ⟨by decide +kernel, by decide +kernel⟩, xpar_of (by decide +kernel), tw_1 (List.mem_of_getElem? (i := 62) rfl), Or.inr ⟨_, tw_1 (List.mem_of_getElem? (i := 85) rfl)⟩⟩
theorem sl_P_221 : xSl "PageScribe" 221 (vA 72) := ⟨_, List.mem_of_getElem? (i := 72) rfl, rfl, Or.inl (tw_5 (List.mem_of_getElem? (i := 64) rfl))⟩
theorem cv_Holders_117 : xCv "PageScribe$Holders" 117 0 ⟨"PageScribe", "rewrite", "(LPageScribe$Slot;LPageScribe$Slot;)V"⟩ 2 := ⟨⟨by decide +kernel, by decide +kernel⟩, xpar_of (by decide +kernel), tw_6 (List.mem_of_getElem? (i := 136) rfl), ⟨_, rfl, List.mem_append_left _ (List.mem_of_getElem? (i := 35) (by decide +kernel))⟩, Or.inr ⟨_, tw_6 (List.mem_of_getElem? (i := 134) rfl)⟩⟩
theorem l_Holders_86 : xFl "PageScribe$Holders" 86 2 1 := ⟨_, rfl, by decide, _, Or.inl rfl, Or.inr ⟨_, tw_4 (List.mem_of_getElem? (i := 165) rfl)⟩⟩
theorem cv_Holders_124 : xCv "PageScribe$Holders" 124 0 ⟨"PageScribe", "push", "(LPageScribe$Slot;)V"⟩ 1 := ⟨⟨by decide +kernel, by decide +kernel⟩, xpar_of (by decide +kernel), tw_6 (List.mem_of_getElem? (i := 103) rfl), ⟨_, rfl, List.mem_append_left _ (List.mem_of_getElem? (i := 33) (by decide +kernel))⟩, Or.inr ⟨_, tw_6 (List.mem_of_getElem? (i := 200) rfl)⟩⟩
theorem sl_Holders_128 : xSl "PageScribe$Holders" 128 (vA 76) := ⟨_, List.mem_of_getElem? (i := 76) rfl, rfl, Or.inl (tw_6 (List.mem_of_getElem? (i := 201) rfl))⟩
theorem cv_Holders_65 : xCv "PageScribe$Holders" 65 0 ⟨"PageScribe", "give", "(ILPageScribe$Kind;I)V"⟩ 3 := ⟨⟨by decide +kernel, by decide +kernel⟩, xpar_of (by decide +kernel), tw_5 (List.mem_of_getElem? (i := 209) rfl), ⟨_, rfl, List.mem_append_left _ (List.mem_of_getElem? (i := 29) (by decide +kernel))⟩, Or.inr ⟨_, tw_6 (List.mem_of_getElem? (i := 120) rfl)⟩⟩
theorem cv_Holders_75 : xCv "PageScribe$Holders" 75 0 ⟨"PageScribe", "at", "(I)LPageScribe$Slot;"⟩ 1 := ⟨⟨by decide +kernel, by decide +kernel⟩, xpar_of (by decide +kernel), tw_4 (List.mem_of_getElem? (i := 227) rfl), ⟨_, rfl, List.mem_append_left _ (List.mem_of_getElem? (i := 6) (by decide +kernel))⟩, Or.inr ⟨_, tw_6 (List.mem_of_getElem? (i := 130) rfl)⟩⟩
theorem cv_Holders_46 : xCv "PageScribe$Holders" 46 2 ⟨"PageScribe$Slot", "set", "(LPageScribe$Kind;IIZ)V"⟩ 4 := ⟨⟨by decide +kernel, by decide +kernel⟩, xpar_of (by decide +kernel), tw_4 (List.mem_of_getElem? (i := 214) rfl), ⟨_, rfl, tw_4 (List.mem_of_getElem? (i := 215) rfl)⟩, Or.inl (tw_6 (List.mem_of_getElem? (i := 118) rfl))⟩
theorem cv_Holders_42 : xCv "PageScribe$Holders" 42 0 ⟨"PageScribe", "take", "(I)I"⟩ 1 := ⟨⟨by decide +kernel, by decide +kernel⟩, xpar_of (by decide +kernel), tw_5 (List.mem_of_getElem? (i := 62) rfl), ⟨_, rfl, List.mem_append_left _ (List.mem_of_getElem? (i := 11) (by decide +kernel))⟩, Or.inr ⟨_, tw_6 (List.mem_of_getElem? (i := 117) rfl)⟩⟩
theorem y_P_take : xY ⟨"PageScribe", "take", "(I)I"⟩ m_P_take := ⟨rfl, rfl, by decide +kernel, Or.inl ⟨rfl, tw_5 (List.mem_of_getElem? (i := 63) rfl)⟩⟩
theorem l_Holders_60 : xFl "PageScribe$Holders" 60 4 2 := ⟨_, rfl, by decide, _, Or.inl rfl, Or.inr ⟨_, tw_3 (List.mem_of_getElem? (i := 38) rfl)⟩⟩
theorem cs_Holders_69 : xCt "PageScribe$Holders" 69 ⟨"PageScribe$Holders", "get", "(LPageScribe;LPageScribe$Slot;LPageScribe$Slot;)V"⟩ 3 := ⟨⟨by decide +kernel, by decide +kernel⟩, xpar_of (by decide +kernel), tw_6 (List.mem_of_getElem? (i := 122) rfl), tw_1 (List.mem_of_getElem? (i := 6) rfl), Or.inl (tw_6 (List.mem_of_getElem? (i := 121) rfl))⟩
theorem y_Holders_get : xY ⟨"PageScribe$Holders", "get", "(LPageScribe;LPageScribe$Slot;LPageScribe$Slot;)V"⟩ m_Holders_get := ⟨rfl, rfl, by decide +kernel, Or.inl ⟨rfl, tw_6 (List.mem_of_getElem? (i := 123) rfl)⟩⟩
theorem cs_Holders_79 : xCt "PageScribe$Holders" 79 ⟨"PageScribe$Holders", "put", "(LPageScribe;LPageScribe$Slot;LPageScribe$Slot;LPageScribe$Slot;)V"⟩ 4 := ⟨⟨by decide +kernel, by decide +kernel⟩, xpar_of (by decide +kernel), tw_6 (List.mem_of_getElem? (i := 132) rfl), tw_1 (List.mem_of_getElem? (i := 6) rfl), Or.inl (tw_6 (List.mem_of_getElem? (i := 131) rfl))⟩
theorem y_Holders_put : xY ⟨"PageScribe$Holders", "put", "(LPageScribe;LPageScribe$Slot;LPageScribe$Slot;LPageScribe$Slot;)V"⟩ m_Holders_put := ⟨rfl, rfl, by decide +kernel, Or.inl ⟨rfl, tw_6 (List.mem_of_getElem? (i := 133) rfl)⟩⟩
theorem cs_Holders_90 : xCt "PageScribe$Holders" 90 ⟨"PageScribe$Holders", "spread", "(LPageScribe;LPageScribe$Slot;)V"⟩ 2 := ⟨⟨by decide +kernel, by decide +kernel⟩, xpar_of (by decide +kernel), tw_6 (List.mem_of_getElem? (i := 198) rfl), tw_1 (List.mem_of_getElem? (i := 6) rfl), Or.inl (tw_6 (List.mem_of_getElem? (i := 197) rfl))⟩
theorem y_Holders_spread : xY ⟨"PageScribe$Holders", "spread", "(LPageScribe;LPageScribe$Slot;)V"⟩ m_Holders_spread := ⟨rfl, rfl, by decide +kernel, Or.inl ⟨rfl, tw_6 (List.mem_of_getElem? (i := 199) rfl)⟩⟩
theorem cs_Holders_94 : xCt "PageScribe$Holders" 94 ⟨"PageScribe$Holders", "dicts", "(LPageScribe;LPageScribe$Op;LPageScribe$Slot;LPageScribe$Slot;)V"⟩ 4 := ⟨⟨by decide +kernel, by decide +kernel⟩, xpar_of (by decide +kernel), tw_6 (List.mem_of_getElem? (i := 204) rfl), tw_1 (List.mem_of_getElem? (i := 6) rfl), Or.inl (tw_6 (List.mem_of_getElem? (i := 203) rfl))⟩
theorem y_Holders_dicts : xY ⟨"PageScribe$Holders", "dicts", "(LPageScribe;LPageScribe$Op;LPageScribe$Slot;LPageScribe$Slot;)V"⟩ m_Holders_dicts := ⟨rfl, rfl, by decide +kernel, Or.inl ⟨rfl, tw_6 (List.mem_of_getElem? (i := 205) rfl)⟩⟩
theorem ci_Name_1 : xCi "PageScribe$Name" 1 ⟨"java/lang/Record", "<init>", "()V"⟩ 0 := ⟨rfl, ⟨by decide +kernel, by decide +kernel⟩, xpar_of (by decide +kernel), tw_3 (List.mem_of_getElem? (i := 14) rfl), Or.inl (tw_3 (List.mem_of_getElem? (i := 13) rfl))⟩
theorem l_Name_7 : xFl "PageScribe$Name" 7 3 0 := ⟨_, rfl, by decide, _, Or.inl rfl, Or.inl (tw_3 (List.mem_of_getElem? (i := 17) rfl))⟩
theorem fp_3_0 : xFp 3 0 true := ⟨_, rfl, by decide, tw_3 (List.mem_of_getElem? (i := 20) rfl), by rfl, rfl⟩
theorem fo_Name_7 : ∃ q : vw_C, xCl[3]? = some q ∧ (q.2.1 0).1 = "PageScribe$Name" ∧ Cond.fieldLink "PageScribe$Name" 7 "PageScribe$Name" (q.2.1 0).2.1 (q.2.1 0).2.2.1 ∈ lw_tbl := ⟨_, rfl, rfl, tw_3 (List.mem_of_getElem? (i := 17) rfl)⟩
theorem l_Name_13 : xFl "PageScribe$Name" 13 3 1 := ⟨_, rfl, by decide, _, Or.inl rfl, Or.inl (tw_3 (List.mem_of_getElem? (i := 18) rfl))⟩
theorem fp_3_1 : xFp 3 1 true := ⟨_, rfl, by decide, tw_3 (List.mem_of_getElem? (i := 22) rfl), by rfl, rfl⟩
theorem fo_Name_13 : ∃ q : vw_C, xCl[3]? = some q ∧ (q.2.1 1).1 = "PageScribe$Name" ∧ Cond.fieldLink "PageScribe$Name" 13 "PageScribe$Name" (q.2.1 1).2.1 (q.2.1 1).2.2.1 ∈ lw_tbl := ⟨_, rfl, rfl, tw_3 (List.mem_of_getElem? (i := 18) rfl)⟩
theorem l_Name_17 : xFl "PageScribe$Name" 17 3 2 := ⟨_, rfl, by decide, _, Or.inl rfl, Or.inl (tw_3 (List.mem_of_getElem? (i := 19) rfl))⟩
theorem fp_3_2 : xFp 3 2 true := ⟨_, rfl, by decide, tw_3 (List.mem_of_getElem? (i := 24) rfl), by rfl, rfl⟩
theorem fo_Name_17 : ∃ q : vw_C, xCl[3]? = some q ∧ (q.2.1 2).1 = "PageScribe$Name" ∧ Cond.fieldLink "PageScribe$Name" 17 "PageScribe$Name" (q.2.1 2).2.1 (q.2.1 2).2.2.1 ∈ lw_tbl := ⟨_, rfl, rfl, tw_3 (List.mem_of_getElem? (i := 19) rfl)⟩
theorem cu_StringBuilder_343 : xCsu "java/lang/StringBuilder" 343 ⟨"java/lang/AbstractStringBuilder", "length", "()I"⟩ 0 := ⟨tw_2 (List.mem_of_getElem? (i := 132) rfl), tw_2 (List.mem_of_getElem? (i := 128) rfl), tw_1 (List.mem_of_getElem? (i := 134) rfl), tw_2 (List.mem_of_getElem? (i := 127) rfl), by decide +kernel, xpar_of (by decide +kernel)⟩
theorem y_AbstractStringBuilder_length : xY ⟨"java/lang/AbstractStringBuilder", "length", "()I"⟩ m_AbstractStringBuilder_length := ⟨rfl, rfl, by decide +kernel, Or.inl ⟨rfl, tw_2 (List.mem_of_getElem? (i := 133) rfl)⟩⟩
theorem sl_String_38 : xSl "java/lang/String" 38 (vI 1) := ⟨_, List.mem_of_getElem? (i := 81) rfl, rfl, Or.inl (tw_2 (List.mem_of_getElem? (i := 48) rfl))⟩
theorem l_String_15 : xFl "java/lang/String" 15 18 1 := ⟨_, rfl, by decide, _, Or.inl rfl, Or.inl (tw_2 (List.mem_of_getElem? (i := 190) rfl))⟩
theorem l_String_9 : xFl "java/lang/String" 9 18 0 := ⟨_, rfl, by decide, _, Or.inl rfl, Or.inl (tw_2 (List.mem_of_getElem? (i := 189) rfl))⟩
theorem cv_String_335 : xCv "java/lang/String" 335 18 ⟨"java/lang/String", "coder", "()B"⟩ 0 := ⟨⟨by decide +kernel, by decide +kernel⟩, xpar_of (by decide +kernel), tw_2 (List.mem_of_getElem? (i := 45) rfl), ⟨_, rfl, tw_2 (List.mem_of_getElem? (i := 46) rfl)⟩, Or.inl (tw_2 (List.mem_of_getElem? (i := 44) rfl))⟩
theorem y_String_coder : xY ⟨"java/lang/String", "coder", "()B"⟩ m_String_coder := ⟨rfl, rfl, by decide +kernel, Or.inl ⟨rfl, tw_2 (List.mem_of_getElem? (i := 47) rfl)⟩⟩
theorem cu_StringBuilder_329 : xCsu "java/lang/StringBuilder" 329 ⟨"java/lang/AbstractStringBuilder", "charAt", "(I)C"⟩ 1 := ⟨tw_5 (List.mem_of_getElem? (i := 47) rfl), tw_10 (List.mem_of_getElem? (i := 73) rfl), tw_1 (List.mem_of_getElem? (i := 134) rfl), tw_5 (List.mem_of_getElem? (i := 48) rfl), by decide +kernel, xpar_of (by decide +kernel)⟩
theorem y_AbstractStringBuilder_charAt : xY ⟨"java/lang/AbstractStringBuilder", "charAt", "(I)C"⟩ m_AbstractStringBuilder_charAt := ⟨rfl, rfl, by decide +kernel, Or.inl ⟨rfl, tw_5 (List.mem_of_getElem? (i := 49) rfl)⟩⟩
theorem cs_StringLatin1_9 : xCt "java/lang/StringLatin1" 9 ⟨"java/lang/String", "checkIndex", "(II)V"⟩ 2 := ⟨⟨by decide +kernel, by decide +kernel⟩, xpar_of (by decide +kernel), tw_2 (List.mem_of_getElem? (i := 233) rfl), tw_1 (List.mem_of_getElem? (i := 11) rfl), Or.inl (tw_2 (List.mem_of_getElem? (i := 232) rfl))⟩
theorem cv_String_492 : xCv "java/lang/String" 492 18 ⟨"java/lang/String", "isLatin1", "()Z"⟩ 0 := ⟨⟨by decide +kernel, by decide +kernel⟩, xpar_of (by decide +kernel), tw_2 (List.mem_of_getElem? (i := 226) rfl), ⟨_, rfl, tw_2 (List.mem_of_getElem? (i := 227) rfl)⟩, Or.inl (tw_2 (List.mem_of_getElem? (i := 225) rfl))⟩
theorem y_String_isLatin1 : xY ⟨"java/lang/String", "isLatin1", "()Z"⟩ m_String_isLatin1 := ⟨rfl, rfl, by decide +kernel, Or.inl ⟨rfl, tw_2 (List.mem_of_getElem? (i := 228) rfl)⟩⟩
theorem cs_String_495 : xCt "java/lang/String" 495 ⟨"java/lang/StringLatin1", "charAt", "([BI)C"⟩ 2 := ⟨⟨by decide +kernel, by decide +kernel⟩, xpar_of (by decide +kernel), tw_2 (List.mem_of_getElem? (i := 230) rfl), tw_1 (List.mem_of_getElem? (i := 25) rfl), Or.inl (tw_2 (List.mem_of_getElem? (i := 229) rfl))⟩
theorem y_StringLatin1_charAt : xY ⟨"java/lang/StringLatin1", "charAt", "([BI)C"⟩ m_StringLatin1_charAt := ⟨rfl, rfl, by decide +kernel, Or.inl ⟨rfl, tw_2 (List.mem_of_getElem? (i := 231) rfl)⟩⟩
theorem cv_Name_21 : xCv "PageScribe$Name" 21 16 ⟨"java/lang/StringBuilder", "length", "()I"⟩ 0 := ⟨⟨by decide +kernel, by decide +kernel⟩, xpar_of (by decide +kernel), tw_2 (List.mem_of_getElem? (i := 130) rfl), ⟨_, rfl, tw_10 (List.mem_of_getElem? (i := 70) rfl)⟩, Or.inl (tw_5 (List.mem_of_getElem? (i := 104) rfl))⟩
theorem y_StringBuilder_length : xY ⟨"java/lang/StringBuilder", "length", "()I"⟩ m_StringBuilder_length := ⟨rfl, rfl, by decide +kernel, Or.inl ⟨rfl, tw_2 (List.mem_of_getElem? (i := 131) rfl)⟩⟩
theorem cv_Name_27 : xCv "PageScribe$Name" 27 18 ⟨"java/lang/String", "length", "()I"⟩ 0 := ⟨⟨by decide +kernel, by decide +kernel⟩, xpar_of (by decide +kernel), tw_2 (List.mem_of_getElem? (i := 41) rfl), ⟨_, rfl, tw_2 (List.mem_of_getElem? (i := 42) rfl)⟩, Or.inl (tw_5 (List.mem_of_getElem? (i := 105) rfl))⟩
theorem y_String_length : xY ⟨"java/lang/String", "length", "()I"⟩ m_String_length := ⟨rfl, rfl, by decide +kernel, Or.inl ⟨rfl, tw_2 (List.mem_of_getElem? (i := 43) rfl)⟩⟩
theorem cv_Name_30 : xCv "PageScribe$Name" 30 16 ⟨"java/lang/StringBuilder", "charAt", "(I)C"⟩ 1 := ⟨⟨by decide +kernel, by decide +kernel⟩, xpar_of (by decide +kernel), tw_5 (List.mem_of_getElem? (i := 44) rfl), ⟨_, rfl, tw_5 (List.mem_of_getElem? (i := 45) rfl)⟩, Or.inl (tw_5 (List.mem_of_getElem? (i := 106) rfl))⟩
theorem y_StringBuilder_charAt : xY ⟨"java/lang/StringBuilder", "charAt", "(I)C"⟩ m_StringBuilder_charAt := ⟨rfl, rfl, by decide +kernel, Or.inl ⟨rfl, tw_5 (List.mem_of_getElem? (i := 46) rfl)⟩⟩
theorem cv_Name_34 : xCv "PageScribe$Name" 34 18 ⟨"java/lang/String", "charAt", "(I)C"⟩ 1 := ⟨⟨by decide +kernel, by decide +kernel⟩, xpar_of (by decide +kernel), tw_2 (List.mem_of_getElem? (i := 222) rfl), ⟨_, rfl, tw_2 (List.mem_of_getElem? (i := 223) rfl)⟩, Or.inl (tw_5 (List.mem_of_getElem? (i := 107) rfl))⟩
theorem y_String_charAt : xY ⟨"java/lang/String", "charAt", "(I)C"⟩ m_String_charAt := ⟨rfl, rfl, by decide +kernel, Or.inl ⟨rfl, tw_2 (List.mem_of_getElem? (i := 224) rfl)⟩⟩
theorem sl_Numbers_86 : xSl "PageScribe$Numbers" 86 (vA 12) := ⟨_, List.mem_of_getElem? (i := 12) rfl, rfl, Or.inl (tw_7 (List.mem_of_getElem? (i := 15) rfl))⟩
theorem sl_Numbers_89 : xSl "PageScribe$Numbers" 89 (vA 13) := ⟨_, List.mem_of_getElem? (i := 13) rfl, rfl, Or.inl (tw_7 (List.mem_of_getElem? (i := 17) rfl))⟩
theorem sl_Numbers_92 : xSl "PageScribe$Numbers" 92 (vA 14) := ⟨_, List.mem_of_getElem? (i := 14) rfl, rfl, Or.inl (tw_7 (List.mem_of_getElem? (i := 19) rfl))⟩
theorem sl_Numbers_95 : xSl "PageScribe$Numbers" 95 (vA 18) := ⟨_, List.mem_of_getElem? (i := 18) rfl, rfl, Or.inl (tw_7 (List.mem_of_getElem? (i := 21) rfl))⟩
theorem ci_Numbers_3 : xCi "PageScribe$Numbers" 3 ⟨"PageScribe$Group", "<init>", "()V"⟩ 0 := ⟨rfl, ⟨by decide +kernel, by decide +kernel⟩, xpar_of (by decide +kernel), tw_1 (List.mem_of_getElem? (i := 62) rfl), Or.inr ⟨_, tw_1 (List.mem_of_getElem? (i := 71) rfl)⟩⟩
theorem sl_Slot_29 : xSl "PageScribe$Slot" 29 (vA 73) := ⟨_, List.mem_of_getElem? (i := 73) rfl, rfl, Or.inl (tw_4 (List.mem_of_getElem? (i := 211) rfl))⟩
theorem c_P_213 : Jvm.Cond.constantDouble "PageScribe" 213 4786511204640096256 ∈ lw_tbl := tw_4 (List.mem_of_getElem? (i := 123) rfl)
theorem c_P_215 : Jvm.Cond.constantDouble "PageScribe" 215 14009883241494872064 ∈ lw_tbl := tw_4 (List.mem_of_getElem? (i := 124) rfl)
theorem cv_P_217 : xCv "PageScribe" 217 2 ⟨"PageScribe$Slot", "makeReal", "(D)V"⟩ 1 := ⟨⟨by decide +kernel, by decide +kernel⟩, xpar_of (by decide +kernel), tw_4 (List.mem_of_getElem? (i := 208) rfl), ⟨_, rfl, tw_4 (List.mem_of_getElem? (i := 209) rfl)⟩, Or.inl (tw_4 (List.mem_of_getElem? (i := 207) rfl))⟩
theorem y_Slot_makeReal : xY ⟨"PageScribe$Slot", "makeReal", "(D)V"⟩ m_Slot_makeReal := ⟨rfl, rfl, by decide +kernel, Or.inl ⟨rfl, tw_4 (List.mem_of_getElem? (i := 210) rfl)⟩⟩
theorem cv_P_224 : xCv "PageScribe" 224 0 ⟨"PageScribe", "giveReal", "(ID)V"⟩ 2 := ⟨⟨by decide +kernel, by decide +kernel⟩, xpar_of (by decide +kernel), tw_7 (List.mem_of_getElem? (i := 6) rfl), ⟨_, rfl, List.mem_append_left _ (List.mem_of_getElem? (i := 39) (by decide +kernel))⟩, Or.inl (tw_7 (List.mem_of_getElem? (i := 4) rfl))⟩
theorem y_P_giveReal : xY ⟨"PageScribe", "giveReal", "(ID)V"⟩ m_P_giveReal := ⟨rfl, rfl, by decide +kernel, Or.inl ⟨rfl, tw_7 (List.mem_of_getElem? (i := 7) rfl)⟩⟩
theorem sl_Numbers_98 : xSl "PageScribe$Numbers" 98 (vA 20) := ⟨_, List.mem_of_getElem? (i := 20) rfl, rfl, Or.inl (tw_7 (List.mem_of_getElem? (i := 26) rfl))⟩
theorem c_Numbers_101 : Jvm.Cond.constantDouble "PageScribe$Numbers" 101 4602678819172646912 ∈ lw_tbl := tw_7 (List.mem_of_getElem? (i := 28) rfl)
theorem sl_Numbers_9 : xSl "PageScribe$Numbers" 9 (vA 72) := ⟨_, List.mem_of_getElem? (i := 72) rfl, rfl, Or.inl (tw_6 (List.mem_of_getElem? (i := 221) rfl))⟩
theorem cv_Numbers_15 : xCv "PageScribe$Numbers" 15 2 ⟨"PageScribe$Slot", "is", "(LPageScribe$Kind;)Z"⟩ 1 := ⟨⟨by decide +kernel, by decide +kernel⟩, xpar_of (by decide +kernel), tw_4 (List.mem_of_getElem? (i := 232) rfl), ⟨_, rfl, tw_4 (List.mem_of_getElem? (i := 233) rfl)⟩, Or.inl (tw_6 (List.mem_of_getElem? (i := 222) rfl))⟩
theorem sl_Numbers_21 : xSl "PageScribe$Numbers" 21 (vA 16) := ⟨_, List.mem_of_getElem? (i := 16) rfl, rfl, Or.inl (tw_6 (List.mem_of_getElem? (i := 223) rfl))⟩
theorem sl_Numbers_27 : xSl "PageScribe$Numbers" 27 (vA 17) := ⟨_, List.mem_of_getElem? (i := 17) rfl, rfl, Or.inl (tw_6 (List.mem_of_getElem? (i := 225) rfl))⟩
theorem cv_Numbers_30 : xCv "PageScribe$Numbers" 30 2 ⟨"PageScribe$Slot", "isNumber", "()Z"⟩ 0 := ⟨⟨by decide +kernel, by decide +kernel⟩, xpar_of (by decide +kernel), tw_6 (List.mem_of_getElem? (i := 228) rfl), ⟨_, rfl, tw_6 (List.mem_of_getElem? (i := 229) rfl)⟩, Or.inl (tw_6 (List.mem_of_getElem? (i := 227) rfl))⟩
theorem y_Slot_isNumber : xY ⟨"PageScribe$Slot", "isNumber", "()Z"⟩ m_Slot_isNumber := ⟨rfl, rfl, by decide +kernel, Or.inl ⟨rfl, tw_6 (List.mem_of_getElem? (i := 230) rfl)⟩⟩
theorem cv_Numbers_34 : xCv "PageScribe$Numbers" 34 0 ⟨"PageScribe", "type", "(Z)V"⟩ 1 := ⟨⟨by decide +kernel, by decide +kernel⟩, xpar_of (by decide +kernel), tw_5 (List.mem_of_getElem? (i := 193) rfl), ⟨_, rfl, List.mem_append_left _ (List.mem_of_getElem? (i := 26) (by decide +kernel))⟩, Or.inr ⟨_, tw_6 (List.mem_of_getElem? (i := 231) rfl)⟩⟩
theorem sl_Numbers_38 : xSl "PageScribe$Numbers" 38 (vA 15) := ⟨_, List.mem_of_getElem? (i := 15) rfl, rfl, Or.inl (tw_6 (List.mem_of_getElem? (i := 232) rfl))⟩
theorem cv_Numbers_41 : xCv "PageScribe$Numbers" 41 2 ⟨"PageScribe$Slot", "value", "()D"⟩ 0 := ⟨⟨by decide +kernel, by decide +kernel⟩, xpar_of (by decide +kernel), tw_6 (List.mem_of_getElem? (i := 235) rfl), ⟨_, rfl, tw_6 (List.mem_of_getElem? (i := 236) rfl)⟩, Or.inl (tw_6 (List.mem_of_getElem? (i := 234) rfl))⟩
theorem y_Slot_value : xY ⟨"PageScribe$Slot", "value", "()D"⟩ m_Slot_value := ⟨rfl, rfl, by decide +kernel, Or.inl ⟨rfl, tw_6 (List.mem_of_getElem? (i := 237) rfl)⟩⟩
theorem cv_Numbers_45 : xCv "PageScribe$Numbers" 45 0 ⟨"PageScribe", "need", "(ZI)V"⟩ 2 := ⟨⟨by decide +kernel, by decide +kernel⟩, xpar_of (by decide +kernel), tw_4 (List.mem_of_getElem? (i := 131) rfl), ⟨_, rfl, List.mem_append_left _ (List.mem_of_getElem? (i := 5) (by decide +kernel))⟩, Or.inr ⟨_, tw_6 (List.mem_of_getElem? (i := 238) rfl)⟩⟩
theorem cw_Numbers_49_19 : xCu "PageScribe$Numbers" 49 19 ⟨"PageScribe$Op", "ordinal", "()I"⟩ ⟨"java/lang/Enum", "ordinal", "()I"⟩ "java/lang/Enum" 0 := ⟨tw_6 (List.mem_of_getElem? (i := 239) rfl), tw_5 (List.mem_of_getElem? (i := 165) rfl), ⟨by decide +kernel, by decide +kernel⟩, Or.inl (tw_5 (List.mem_of_getElem? (i := 166) rfl)), ⟨_, rfl, tw_5 (List.mem_of_getElem? (i := 167) rfl)⟩, tw_5 (List.mem_of_getElem? (i := 168) rfl), xpar_of (by decide +kernel)⟩
theorem l_Numbers_53 : xFl "PageScribe$Numbers" 53 2 2 := ⟨_, rfl, by decide, _, Or.inl rfl, Or.inr ⟨_, tw_4 (List.mem_of_getElem? (i := 173) rfl)⟩⟩
theorem cv_Numbers_57 : xCv "PageScribe$Numbers" 57 0 ⟨"PageScribe", "whole", "(IJ)V"⟩ 2 := ⟨⟨by decide +kernel, by decide +kernel⟩, xpar_of (by decide +kernel), tw_7 (List.mem_of_getElem? (i := 2) rfl), ⟨_, rfl, List.mem_append_left _ (List.mem_of_getElem? (i := 38) (by decide +kernel))⟩, Or.inr ⟨_, tw_7 (List.mem_of_getElem? (i := 0) rfl)⟩⟩
theorem y_P_whole : xY ⟨"PageScribe", "whole", "(IJ)V"⟩ m_P_whole := ⟨rfl, rfl, by decide +kernel, Or.inl ⟨rfl, tw_7 (List.mem_of_getElem? (i := 3) rfl)⟩⟩
theorem cv_Numbers_61 : xCv "PageScribe$Numbers" 61 0 ⟨"PageScribe", "giveReal", "(ID)V"⟩ 2 := ⟨⟨by decide +kernel, by decide +kernel⟩, xpar_of (by decide +kernel), tw_7 (List.mem_of_getElem? (i := 6) rfl), ⟨_, rfl, List.mem_append_left _ (List.mem_of_getElem? (i := 39) (by decide +kernel))⟩, Or.inr ⟨_, tw_7 (List.mem_of_getElem? (i := 8) rfl)⟩⟩
theorem c_Numbers_65 : Jvm.Cond.constantDouble "PageScribe$Numbers" 65 13970166044105375744 ∈ lw_tbl := tw_7 (List.mem_of_getElem? (i := 9) rfl)
theorem c_Numbers_67 : Jvm.Cond.constantDouble "PageScribe$Numbers" 67 4746794007248502784 ∈ lw_tbl := tw_7 (List.mem_of_getElem? (i := 10) rfl)
theorem cv_Numbers_69 : xCv "PageScribe$Numbers" 69 0 ⟨"PageScribe", "give", "(ILPageScribe$Kind;I)V"⟩ 3 := ⟨⟨by decide +kernel, by decide +kernel⟩, xpar_of (by decide +kernel), tw_5 (List.mem_of_getElem? (i := 209) rfl), ⟨_, rfl, List.mem_append_left _ (List.mem_of_getElem? (i := 29) (by decide +kernel))⟩, Or.inr ⟨_, tw_7 (List.mem_of_getElem? (i := 11) rfl)⟩⟩
theorem l_Numbers_73 : xFl "PageScribe$Numbers" 73 19 2 := ⟨_, rfl, by decide, _, Or.inl rfl, Or.inr ⟨_, tw_10 (List.mem_of_getElem? (i := 109) rfl)⟩⟩
theorem cs_Numbers_76 : xCt "PageScribe$Numbers" 76 ⟨"PageScribe$Numbers", "exact", "(LPageScribe$Op;JJ)J"⟩ 3 := ⟨⟨by decide +kernel, by decide +kernel⟩, xpar_of (by decide +kernel), tw_7 (List.mem_of_getElem? (i := 13) rfl), tw_1 (List.mem_of_getElem? (i := 4) rfl), Or.inl (tw_7 (List.mem_of_getElem? (i := 12) rfl))⟩
theorem y_Numbers_exact : xY ⟨"PageScribe$Numbers", "exact", "(LPageScribe$Op;JJ)J"⟩ m_Numbers_exact := ⟨rfl, rfl, by decide +kernel, Or.inl ⟨rfl, tw_7 (List.mem_of_getElem? (i := 14) rfl)⟩⟩
theorem cs_Numbers_82 : xCt "PageScribe$Numbers" 82 ⟨"PageScribe$Numbers", "worked", "(LPageScribe$Op;DD)D"⟩ 3 := ⟨⟨by decide +kernel, by decide +kernel⟩, xpar_of (by decide +kernel), tw_7 (List.mem_of_getElem? (i := 24) rfl), tw_1 (List.mem_of_getElem? (i := 4) rfl), Or.inl (tw_7 (List.mem_of_getElem? (i := 23) rfl))⟩
theorem y_Numbers_worked : xY ⟨"PageScribe$Numbers", "worked", "(LPageScribe$Op;DD)D"⟩ m_Numbers_worked := ⟨rfl, rfl, by decide +kernel, Or.inl ⟨rfl, tw_7 (List.mem_of_getElem? (i := 25) rfl)⟩⟩
theorem cv_P_228 : xCv "PageScribe" 228 0 ⟨"PageScribe", "swap", "(II)V"⟩ 2 := ⟨⟨by decide +kernel, by decide +kernel⟩, xpar_of (by decide +kernel), tw_7 (List.mem_of_getElem? (i := 68) rfl), ⟨_, rfl, List.mem_append_left _ (List.mem_of_getElem? (i := 44) (by decide +kernel))⟩, Or.inl (tw_7 (List.mem_of_getElem? (i := 90) rfl))⟩
theorem y_P_swap : xY ⟨"PageScribe", "swap", "(II)V"⟩ m_P_swap := ⟨rfl, rfl, by decide +kernel, Or.inl ⟨rfl, tw_7 (List.mem_of_getElem? (i := 69) rfl)⟩⟩
theorem l_P_393 : xFl "PageScribe" 393 0 5 := ⟨_, rfl, by decide, _, Or.inl rfl, Or.inl (tw_3 (List.mem_of_getElem? (i := 127) rfl))⟩
theorem l_P_44 : xFl "PageScribe" 44 0 2 := ⟨_, rfl, by decide, _, Or.inl rfl, Or.inl (tw_3 (List.mem_of_getElem? (i := 124) rfl))⟩
theorem cv_P_396 : xCv "PageScribe" 396 16 ⟨"java/lang/StringBuilder", "length", "()I"⟩ 0 := ⟨⟨by decide +kernel, by decide +kernel⟩, xpar_of (by decide +kernel), tw_2 (List.mem_of_getElem? (i := 130) rfl), ⟨_, rfl, tw_10 (List.mem_of_getElem? (i := 70) rfl)⟩, Or.inl (tw_4 (List.mem_of_getElem? (i := 29) rfl))⟩
theorem cv_P_397 : xCv "PageScribe" 397 16 ⟨"java/lang/StringBuilder", "charAt", "(I)C"⟩ 1 := ⟨⟨by decide +kernel, by decide +kernel⟩, xpar_of (by decide +kernel), tw_5 (List.mem_of_getElem? (i := 44) rfl), ⟨_, rfl, tw_5 (List.mem_of_getElem? (i := 45) rfl)⟩, Or.inl (tw_5 (List.mem_of_getElem? (i := 43) rfl))⟩
theorem cv_P_398 : xCv "PageScribe" 398 0 ⟨"PageScribe", "here", "()C"⟩ 0 := ⟨⟨by decide +kernel, by decide +kernel⟩, xpar_of (by decide +kernel), tw_5 (List.mem_of_getElem? (i := 41) rfl), ⟨_, rfl, List.mem_append_left _ (List.mem_of_getElem? (i := 9) (by decide +kernel))⟩, Or.inl (tw_5 (List.mem_of_getElem? (i := 39) rfl))⟩
theorem y_P_here : xY ⟨"PageScribe", "here", "()C"⟩ m_P_here := ⟨rfl, rfl, by decide +kernel, Or.inl ⟨rfl, tw_5 (List.mem_of_getElem? (i := 42) rfl)⟩⟩
theorem fp_0_5 : xFp 0 5 false := ⟨_, rfl, by decide, tw_3 (List.mem_of_getElem? (i := 194) rfl), by rfl, rfl⟩
theorem cs_P_419 : xCt "PageScribe" 419 ⟨"PageScribe", "isDigit", "(C)Z"⟩ 1 := ⟨⟨by decide +kernel, by decide +kernel⟩, xpar_of (by decide +kernel), tw_5 (List.mem_of_getElem? (i := 77) rfl), tw_1 (List.mem_of_getElem? (i := 1) rfl), Or.inl (tw_5 (List.mem_of_getElem? (i := 76) rfl))⟩
theorem y_P_isDigit : xY ⟨"PageScribe", "isDigit", "(C)Z"⟩ m_P_isDigit := ⟨rfl, rfl, by decide +kernel, Or.inl ⟨rfl, tw_5 (List.mem_of_getElem? (i := 78) rfl)⟩⟩
theorem cv_P_429 : xCv "PageScribe" 429 0 ⟨"PageScribe", "next", "()C"⟩ 0 := ⟨⟨by decide +kernel, by decide +kernel⟩, xpar_of (by decide +kernel), tw_5 (List.mem_of_getElem? (i := 89) rfl), ⟨_, rfl, List.mem_append_left _ (List.mem_of_getElem? (i := 15) (by decide +kernel))⟩, Or.inl (tw_5 (List.mem_of_getElem? (i := 87) rfl))⟩
theorem y_P_next : xY ⟨"PageScribe", "next", "()C"⟩ m_P_next := ⟨rfl, rfl, by decide +kernel, Or.inl ⟨rfl, tw_5 (List.mem_of_getElem? (i := 90) rfl)⟩⟩
theorem l_P_60 : xFl "PageScribe" 60 0 8 := ⟨_, rfl, by decide, _, Or.inl rfl, Or.inl (tw_3 (List.mem_of_getElem? (i := 135) rfl))⟩
theorem l_P_405 : xFl "PageScribe" 405 0 11 := ⟨_, rfl, by decide, _, Or.inl rfl, Or.inl (tw_3 (List.mem_of_getElem? (i := 142) rfl))⟩
theorem fp_0_11 : xFp 0 11 false := ⟨_, rfl, by decide, tw_3 (List.mem_of_getElem? (i := 206) rfl), by rfl, rfl⟩
theorem l_P_471 : xFl "PageScribe" 471 0 35 := ⟨_, rfl, by decide, _, Or.inl rfl, Or.inl (tw_3 (List.mem_of_getElem? (i := 179) rfl))⟩
theorem l_P_97 : xFl "PageScribe" 97 0 30 := ⟨_, rfl, by decide, _, Or.inl rfl, Or.inl (tw_3 (List.mem_of_getElem? (i := 170) rfl))⟩
theorem l_P_101 : xFl "PageScribe" 101 0 31 := ⟨_, rfl, by decide, _, Or.inl rfl, Or.inl (tw_3 (List.mem_of_getElem? (i := 172) rfl))⟩
theorem l_P_104 : xFl "PageScribe" 104 0 32 := ⟨_, rfl, by decide, _, Or.inl rfl, Or.inl (tw_3 (List.mem_of_getElem? (i := 174) rfl))⟩
theorem fp_0_35 : xFp 0 35 false := ⟨_, rfl, by decide, tw_4 (List.mem_of_getElem? (i := 14) rfl), by rfl, rfl⟩
theorem l_P_474 : xFl "PageScribe" 474 0 36 := ⟨_, rfl, by decide, _, Or.inl rfl, Or.inl (tw_3 (List.mem_of_getElem? (i := 180) rfl))⟩
theorem fp_0_36 : xFp 0 36 false := ⟨_, rfl, by decide, tw_4 (List.mem_of_getElem? (i := 16) rfl), by rfl, rfl⟩
theorem l_P_107 : xFl "PageScribe" 107 0 33 := ⟨_, rfl, by decide, _, Or.inl rfl, Or.inl (tw_3 (List.mem_of_getElem? (i := 176) rfl))⟩
theorem l_P_110 : xFl "PageScribe" 110 0 34 := ⟨_, rfl, by decide, _, Or.inl rfl, Or.inl (tw_3 (List.mem_of_getElem? (i := 177) rfl))⟩
theorem c_P_477 : Jvm.Cond.constantFloat "PageScribe" 477 1097859072 ∈ lw_tbl := tw_7 (List.mem_of_getElem? (i := 49) rfl)
theorem l_P_93 : xFl "PageScribe" 93 0 29 := ⟨_, rfl, by decide, _, Or.inl rfl, Or.inl (tw_3 (List.mem_of_getElem? (i := 168) rfl))⟩
theorem c_P_478 : Jvm.Cond.constantFloat "PageScribe" 478 1056964608 ∈ lw_tbl := tw_7 (List.mem_of_getElem? (i := 50) rfl)
theorem l_P_121 : xFl "PageScribe" 121 0 39 := ⟨_, rfl, by decide, _, Or.inl rfl, Or.inl (tw_3 (List.mem_of_getElem? (i := 183) rfl))⟩
theorem c_P_479 : Jvm.Cond.constantDouble "PageScribe" 479 4602678819172646912 ∈ lw_tbl := tw_7 (List.mem_of_getElem? (i := 51) rfl)
theorem cv_P_481 : xCv "PageScribe" 481 0 ⟨"PageScribe", "pass", "(D)V"⟩ 1 := ⟨⟨by decide +kernel, by decide +kernel⟩, xpar_of (by decide +kernel), tw_7 (List.mem_of_getElem? (i := 54) rfl), ⟨_, rfl, List.mem_append_left _ (List.mem_of_getElem? (i := 42) (by decide +kernel))⟩, Or.inl (tw_7 (List.mem_of_getElem? (i := 52) rfl))⟩
theorem y_P_pass : xY ⟨"PageScribe", "pass", "(D)V"⟩ m_P_pass := ⟨rfl, rfl, by decide +kernel, Or.inl ⟨rfl, tw_7 (List.mem_of_getElem? (i := 55) rfl)⟩⟩
theorem l_P_118 : xFl "PageScribe" 118 0 38 := ⟨_, rfl, by decide, _, Or.inl rfl, Or.inl (tw_3 (List.mem_of_getElem? (i := 182) rfl))⟩
theorem cv_P_484 : xCv "PageScribe" 484 0 ⟨"PageScribe", "isInside", "(DDZ)Z"⟩ 3 := ⟨⟨by decide +kernel, by decide +kernel⟩, xpar_of (by decide +kernel), tw_7 (List.mem_of_getElem? (i := 58) rfl), ⟨_, rfl, List.mem_append_left _ (List.mem_of_getElem? (i := 43) (by decide +kernel))⟩, Or.inl (tw_7 (List.mem_of_getElem? (i := 56) rfl))⟩
theorem y_P_isInside : xY ⟨"PageScribe", "isInside", "(DDZ)Z"⟩ m_P_isInside := ⟨rfl, rfl, by decide +kernel, Or.inl ⟨rfl, tw_7 (List.mem_of_getElem? (i := 59) rfl)⟩⟩
theorem l_P_115 : xFl "PageScribe" 115 0 37 := ⟨_, rfl, by decide, _, Or.inl rfl, Or.inl (tw_3 (List.mem_of_getElem? (i := 181) rfl))⟩
theorem l_Paint_9 : xFl "PageScribe$Paint" 9 19 2 := ⟨_, rfl, by decide, _, Or.inl rfl, Or.inr ⟨_, tw_10 (List.mem_of_getElem? (i := 110) rfl)⟩⟩
theorem cv_Paint_15 : xCv "PageScribe$Paint" 15 2 ⟨"PageScribe$Slot", "isNumber", "()Z"⟩ 0 := ⟨⟨by decide +kernel, by decide +kernel⟩, xpar_of (by decide +kernel), tw_6 (List.mem_of_getElem? (i := 228) rfl), ⟨_, rfl, tw_6 (List.mem_of_getElem? (i := 229) rfl)⟩, Or.inl (tw_7 (List.mem_of_getElem? (i := 32) rfl))⟩
theorem cv_Paint_21 : xCv "PageScribe$Paint" 21 0 ⟨"PageScribe", "type", "(Z)V"⟩ 1 := ⟨⟨by decide +kernel, by decide +kernel⟩, xpar_of (by decide +kernel), tw_5 (List.mem_of_getElem? (i := 193) rfl), ⟨_, rfl, List.mem_append_left _ (List.mem_of_getElem? (i := 26) (by decide +kernel))⟩, Or.inr ⟨_, tw_7 (List.mem_of_getElem? (i := 33) rfl)⟩⟩
theorem cv_Paint_25 : xCv "PageScribe$Paint" 25 2 ⟨"PageScribe$Slot", "value", "()D"⟩ 0 := ⟨⟨by decide +kernel, by decide +kernel⟩, xpar_of (by decide +kernel), tw_6 (List.mem_of_getElem? (i := 235) rfl), ⟨_, rfl, tw_6 (List.mem_of_getElem? (i := 236) rfl)⟩, Or.inl (tw_7 (List.mem_of_getElem? (i := 34) rfl))⟩
theorem c_Paint_29 : Jvm.Cond.constantDouble "PageScribe$Paint" 29 4696837146684686336 ∈ lw_tbl := tw_7 (List.mem_of_getElem? (i := 35) rfl)
theorem c_Paint_31 : Jvm.Cond.constantDouble "PageScribe$Paint" 31 13920209183539462144 ∈ lw_tbl := tw_7 (List.mem_of_getElem? (i := 36) rfl)
theorem cv_Paint_33 : xCv "PageScribe$Paint" 33 0 ⟨"PageScribe", "need", "(ZI)V"⟩ 2 := ⟨⟨by decide +kernel, by decide +kernel⟩, xpar_of (by decide +kernel), tw_4 (List.mem_of_getElem? (i := 131) rfl), ⟨_, rfl, List.mem_append_left _ (List.mem_of_getElem? (i := 5) (by decide +kernel))⟩, Or.inr ⟨_, tw_7 (List.mem_of_getElem? (i := 37) rfl)⟩⟩
theorem cw_Paint_37_19 : xCu "PageScribe$Paint" 37 19 ⟨"PageScribe$Op", "ordinal", "()I"⟩ ⟨"java/lang/Enum", "ordinal", "()I"⟩ "java/lang/Enum" 0 := ⟨tw_7 (List.mem_of_getElem? (i := 38) rfl), tw_5 (List.mem_of_getElem? (i := 165) rfl), ⟨by decide +kernel, by decide +kernel⟩, Or.inl (tw_5 (List.mem_of_getElem? (i := 166) rfl)), ⟨_, rfl, tw_5 (List.mem_of_getElem? (i := 167) rfl)⟩, tw_5 (List.mem_of_getElem? (i := 168) rfl), xpar_of (by decide +kernel)⟩
theorem l_Paint_41 : xFl "PageScribe$Paint" 41 0 29 := ⟨_, rfl, by decide, _, Or.inl rfl, Or.inr ⟨_, tw_3 (List.mem_of_getElem? (i := 169) rfl)⟩⟩
theorem fp_0_29 : xFp 0 29 false := ⟨_, rfl, by decide, tw_4 (List.mem_of_getElem? (i := 2) rfl), by rfl, rfl⟩
theorem l_Paint_45 : xFl "PageScribe$Paint" 45 0 35 := ⟨_, rfl, by decide, _, Or.inl rfl, Or.inr ⟨_, tw_3 (List.mem_of_getElem? (i := 178) rfl)⟩⟩
theorem cv_Paint_48 : xCv "PageScribe$Paint" 48 0 ⟨"PageScribe", "point", "(DDI)V"⟩ 3 := ⟨⟨by decide +kernel, by decide +kernel⟩, xpar_of (by decide +kernel), tw_7 (List.mem_of_getElem? (i := 41) rfl), ⟨_, rfl, List.mem_append_left _ (List.mem_of_getElem? (i := 40) (by decide +kernel))⟩, Or.inr ⟨_, tw_7 (List.mem_of_getElem? (i := 39) rfl)⟩⟩
theorem y_P_point : xY ⟨"PageScribe", "point", "(DDI)V"⟩ m_P_point := ⟨rfl, rfl, by decide +kernel, Or.inl ⟨rfl, tw_7 (List.mem_of_getElem? (i := 42) rfl)⟩⟩
theorem sl_Paint_52 : xSl "PageScribe$Paint" 52 (vA 70) := ⟨_, List.mem_of_getElem? (i := 70) rfl, rfl, Or.inl (tw_7 (List.mem_of_getElem? (i := 43) rfl))⟩
theorem cv_Paint_56 : xCv "PageScribe$Paint" 56 0 ⟨"PageScribe", "paint", "(Z)V"⟩ 1 := ⟨⟨by decide +kernel, by decide +kernel⟩, xpar_of (by decide +kernel), tw_7 (List.mem_of_getElem? (i := 47) rfl), ⟨_, rfl, List.mem_append_left _ (List.mem_of_getElem? (i := 41) (by decide +kernel))⟩, Or.inr ⟨_, tw_7 (List.mem_of_getElem? (i := 45) rfl)⟩⟩
theorem y_P_paint : xY ⟨"PageScribe", "paint", "(Z)V"⟩ m_P_paint := ⟨rfl, rfl, by decide +kernel, Or.inl ⟨rfl, tw_7 (List.mem_of_getElem? (i := 48) rfl)⟩⟩
theorem l_Paint_59 : xFl "PageScribe$Paint" 59 0 32 := ⟨_, rfl, by decide, _, Or.inl rfl, Or.inr ⟨_, tw_3 (List.mem_of_getElem? (i := 175) rfl)⟩⟩
theorem sl_Paint_63 : xSl "PageScribe$Paint" 63 (vA 68) := ⟨_, List.mem_of_getElem? (i := 68) rfl, rfl, Or.inl (tw_7 (List.mem_of_getElem? (i := 60) rfl))⟩
theorem l_Paint_66 : xFl "PageScribe$Paint" 66 0 30 := ⟨_, rfl, by decide, _, Or.inl rfl, Or.inr ⟨_, tw_3 (List.mem_of_getElem? (i := 171) rfl)⟩⟩
theorem l_Paint_70 : xFl "PageScribe$Paint" 70 0 31 := ⟨_, rfl, by decide, _, Or.inl rfl, Or.inr ⟨_, tw_3 (List.mem_of_getElem? (i := 173) rfl)⟩⟩
theorem l_Paint_73 : xFl "PageScribe$Paint" 73 0 9 := ⟨_, rfl, by decide, _, Or.inl rfl, Or.inr ⟨_, tw_3 (List.mem_of_getElem? (i := 139) rfl)⟩⟩
theorem sl_Stacks_33 : xSl "PageScribe$Stacks" 33 (vA 72) := ⟨_, List.mem_of_getElem? (i := 72) rfl, rfl, Or.inl (tw_7 (List.mem_of_getElem? (i := 74) rfl))⟩
theorem cv_Stacks_39 : xCv "PageScribe$Stacks" 39 2 ⟨"PageScribe$Slot", "is", "(LPageScribe$Kind;)Z"⟩ 1 := ⟨⟨by decide +kernel, by decide +kernel⟩, xpar_of (by decide +kernel), tw_4 (List.mem_of_getElem? (i := 232) rfl), ⟨_, rfl, tw_4 (List.mem_of_getElem? (i := 233) rfl)⟩, Or.inl (tw_7 (List.mem_of_getElem? (i := 75) rfl))⟩
theorem cv_Stacks_45 : xCv "PageScribe$Stacks" 45 0 ⟨"PageScribe", "type", "(Z)V"⟩ 1 := ⟨⟨by decide +kernel, by decide +kernel⟩, xpar_of (by decide +kernel), tw_5 (List.mem_of_getElem? (i := 193) rfl), ⟨_, rfl, List.mem_append_left _ (List.mem_of_getElem? (i := 26) (by decide +kernel))⟩, Or.inr ⟨_, tw_7 (List.mem_of_getElem? (i := 76) rfl)⟩⟩
theorem l_Stacks_49 : xFl "PageScribe$Stacks" 49 2 2 := ⟨_, rfl, by decide, _, Or.inl rfl, Or.inr ⟨_, tw_4 (List.mem_of_getElem? (i := 171) rfl)⟩⟩
theorem l_Stacks_15 : xFl "PageScribe$Stacks" 15 0 9 := ⟨_, rfl, by decide, _, Or.inl rfl, Or.inr ⟨_, tw_3 (List.mem_of_getElem? (i := 136) rfl)⟩⟩
theorem cv_Stacks_52 : xCv "PageScribe$Stacks" 52 0 ⟨"PageScribe", "need", "(ZI)V"⟩ 2 := ⟨⟨by decide +kernel, by decide +kernel⟩, xpar_of (by decide +kernel), tw_4 (List.mem_of_getElem? (i := 131) rfl), ⟨_, rfl, List.mem_append_left _ (List.mem_of_getElem? (i := 5) (by decide +kernel))⟩, Or.inr ⟨_, tw_7 (List.mem_of_getElem? (i := 77) rfl)⟩⟩
theorem cv_Stacks_56 : xCv "PageScribe$Stacks" 56 0 ⟨"PageScribe", "at", "(I)LPageScribe$Slot;"⟩ 1 := ⟨⟨by decide +kernel, by decide +kernel⟩, xpar_of (by decide +kernel), tw_4 (List.mem_of_getElem? (i := 227) rfl), ⟨_, rfl, List.mem_append_left _ (List.mem_of_getElem? (i := 6) (by decide +kernel))⟩, Or.inr ⟨_, tw_7 (List.mem_of_getElem? (i := 78) rfl)⟩⟩
theorem cv_Stacks_23 : xCv "PageScribe$Stacks" 23 0 ⟨"PageScribe", "push", "(LPageScribe$Slot;)V"⟩ 1 := ⟨⟨by decide +kernel, by decide +kernel⟩, xpar_of (by decide +kernel), tw_6 (List.mem_of_getElem? (i := 103) rfl), ⟨_, rfl, List.mem_append_left _ (List.mem_of_getElem? (i := 33) (by decide +kernel))⟩, Or.inr ⟨_, tw_7 (List.mem_of_getElem? (i := 70) rfl)⟩⟩
theorem cs_Stacks_81 : xCt "PageScribe$Stacks" 81 ⟨"java/lang/Math", "floorMod", "(II)I"⟩ 2 := ⟨⟨by decide +kernel, by decide +kernel⟩, xpar_of (by decide +kernel), tw_7 (List.mem_of_getElem? (i := 84) rfl), tw_1 (List.mem_of_getElem? (i := 21) rfl), Or.inl (tw_7 (List.mem_of_getElem? (i := 83) rfl))⟩
theorem y_Math_floorMod : xY ⟨"java/lang/Math", "floorMod", "(II)I"⟩ m_Math_floorMod := ⟨rfl, rfl, by decide +kernel, Or.inl ⟨rfl, tw_7 (List.mem_of_getElem? (i := 85) rfl)⟩⟩
theorem cv_Stacks_87 : xCv "PageScribe$Stacks" 87 0 ⟨"PageScribe", "about", "(II)V"⟩ 2 := ⟨⟨by decide +kernel, by decide +kernel⟩, xpar_of (by decide +kernel), tw_7 (List.mem_of_getElem? (i := 88) rfl), ⟨_, rfl, List.mem_append_left _ (List.mem_of_getElem? (i := 45) (by decide +kernel))⟩, Or.inr ⟨_, tw_7 (List.mem_of_getElem? (i := 86) rfl)⟩⟩
theorem y_P_about : xY ⟨"PageScribe", "about", "(II)V"⟩ m_P_about := ⟨rfl, rfl, by decide +kernel, Or.inl ⟨rfl, tw_7 (List.mem_of_getElem? (i := 89) rfl)⟩⟩
theorem l_Stacks_90 : xFl "PageScribe$Stacks" 90 0 6 := ⟨_, rfl, by decide, _, Or.inl rfl, Or.inr ⟨_, tw_3 (List.mem_of_getElem? (i := 130) rfl)⟩⟩
theorem sl_Stacks_78 : xSl "PageScribe$Stacks" 78 (vA 76) := ⟨_, List.mem_of_getElem? (i := 76) rfl, rfl, Or.inl (tw_7 (List.mem_of_getElem? (i := 95) rfl))⟩
theorem cv_Stacks_94 : xCv "PageScribe$Stacks" 94 0 ⟨"PageScribe", "take", "(I)I"⟩ 1 := ⟨⟨by decide +kernel, by decide +kernel⟩, xpar_of (by decide +kernel), tw_5 (List.mem_of_getElem? (i := 62) rfl), ⟨_, rfl, List.mem_append_left _ (List.mem_of_getElem? (i := 11) (by decide +kernel))⟩, Or.inr ⟨_, tw_7 (List.mem_of_getElem? (i := 99) rfl)⟩⟩
theorem l_Stacks_98 : xFl "PageScribe$Stacks" 98 0 7 := ⟨_, rfl, by decide, _, Or.inl rfl, Or.inr ⟨_, tw_3 (List.mem_of_getElem? (i := 134) rfl)⟩⟩
theorem cv_Stacks_60 : xCv "PageScribe$Stacks" 60 2 ⟨"PageScribe$Slot", "copy", "(LPageScribe$Slot;)V"⟩ 1 := ⟨⟨by decide +kernel, by decide +kernel⟩, xpar_of (by decide +kernel), tw_5 (List.mem_of_getElem? (i := 67) rfl), ⟨_, rfl, tw_5 (List.mem_of_getElem? (i := 68) rfl)⟩, Or.inl (tw_7 (List.mem_of_getElem? (i := 79) rfl))⟩
theorem sl_Stacks_101 : xSl "PageScribe$Stacks" 101 (vA 77) := ⟨_, List.mem_of_getElem? (i := 77) rfl, rfl, Or.inl (tw_7 (List.mem_of_getElem? (i := 100) rfl))⟩
theorem cv_Stacks_104 : xCv "PageScribe$Stacks" 104 2 ⟨"PageScribe$Slot", "set", "(LPageScribe$Kind;IIZ)V"⟩ 4 := ⟨⟨by decide +kernel, by decide +kernel⟩, xpar_of (by decide +kernel), tw_4 (List.mem_of_getElem? (i := 214) rfl), ⟨_, rfl, tw_4 (List.mem_of_getElem? (i := 215) rfl)⟩, Or.inl (tw_7 (List.mem_of_getElem? (i := 101) rfl))⟩
theorem cw_Stacks_9_19 : xCu "PageScribe$Stacks" 9 19 ⟨"PageScribe$Op", "ordinal", "()I"⟩ ⟨"java/lang/Enum", "ordinal", "()I"⟩ "java/lang/Enum" 0 := ⟨tw_7 (List.mem_of_getElem? (i := 65) rfl), tw_5 (List.mem_of_getElem? (i := 165) rfl), ⟨by decide +kernel, by decide +kernel⟩, Or.inl (tw_5 (List.mem_of_getElem? (i := 166) rfl)), ⟨_, rfl, tw_5 (List.mem_of_getElem? (i := 167) rfl)⟩, tw_5 (List.mem_of_getElem? (i := 168) rfl), xpar_of (by decide +kernel)⟩
theorem cv_Stacks_19 : xCv "PageScribe$Stacks" 19 0 ⟨"PageScribe", "swap", "(II)V"⟩ 2 := ⟨⟨by decide +kernel, by decide +kernel⟩, xpar_of (by decide +kernel), tw_7 (List.mem_of_getElem? (i := 68) rfl), ⟨_, rfl, List.mem_append_left _ (List.mem_of_getElem? (i := 44) (by decide +kernel))⟩, Or.inr ⟨_, tw_7 (List.mem_of_getElem? (i := 66) rfl)⟩⟩
theorem cs_Stacks_27 : xCt "PageScribe$Stacks" 27 ⟨"PageScribe$Stacks", "copy", "(LPageScribe;LPageScribe$Slot;)V"⟩ 2 := ⟨⟨by decide +kernel, by decide +kernel⟩, xpar_of (by decide +kernel), tw_7 (List.mem_of_getElem? (i := 72) rfl), tw_1 (List.mem_of_getElem? (i := 3) rfl), Or.inl (tw_7 (List.mem_of_getElem? (i := 71) rfl))⟩
theorem y_Stacks_copy : xY ⟨"PageScribe$Stacks", "copy", "(LPageScribe;LPageScribe$Slot;)V"⟩ m_Stacks_copy := ⟨rfl, rfl, by decide +kernel, Or.inl ⟨rfl, tw_7 (List.mem_of_getElem? (i := 73) rfl)⟩⟩
theorem cs_Stacks_62 : xCt "PageScribe$Stacks" 62 ⟨"PageScribe$Stacks", "roll", "(LPageScribe;LPageScribe$Slot;LPageScribe$Slot;)V"⟩ 3 := ⟨⟨by decide +kernel, by decide +kernel⟩, xpar_of (by decide +kernel), tw_7 (List.mem_of_getElem? (i := 81) rfl), tw_1 (List.mem_of_getElem? (i := 3) rfl), Or.inl (tw_7 (List.mem_of_getElem? (i := 80) rfl))⟩
theorem y_Stacks_roll : xY ⟨"PageScribe$Stacks", "roll", "(LPageScribe;LPageScribe$Slot;LPageScribe$Slot;)V"⟩ m_Stacks_roll := ⟨rfl, rfl, by decide +kernel, Or.inl ⟨rfl, tw_7 (List.mem_of_getElem? (i := 82) rfl)⟩⟩
theorem cv_Stacks_66 : xCv "PageScribe$Stacks" 66 0 ⟨"PageScribe", "give", "(ILPageScribe$Kind;I)V"⟩ 3 := ⟨⟨by decide +kernel, by decide +kernel⟩, xpar_of (by decide +kernel), tw_5 (List.mem_of_getElem? (i := 209) rfl), ⟨_, rfl, List.mem_append_left _ (List.mem_of_getElem? (i := 29) (by decide +kernel))⟩, Or.inr ⟨_, tw_7 (List.mem_of_getElem? (i := 91) rfl)⟩⟩
theorem cs_Stacks_70 : xCt "PageScribe$Stacks" 70 ⟨"PageScribe$Stacks", "marked", "(LPageScribe;)I"⟩ 1 := ⟨⟨by decide +kernel, by decide +kernel⟩, xpar_of (by decide +kernel), tw_7 (List.mem_of_getElem? (i := 93) rfl), tw_1 (List.mem_of_getElem? (i := 3) rfl), Or.inl (tw_7 (List.mem_of_getElem? (i := 92) rfl))⟩
theorem y_Stacks_marked : xY ⟨"PageScribe$Stacks", "marked", "(LPageScribe;)I"⟩ m_Stacks_marked := ⟨rfl, rfl, by decide +kernel, Or.inl ⟨rfl, tw_7 (List.mem_of_getElem? (i := 94) rfl)⟩⟩
theorem cs_Stacks_74 : xCt "PageScribe$Stacks" 74 ⟨"PageScribe$Stacks", "close", "(LPageScribe;I)V"⟩ 2 := ⟨⟨by decide +kernel, by decide +kernel⟩, xpar_of (by decide +kernel), tw_7 (List.mem_of_getElem? (i := 97) rfl), tw_1 (List.mem_of_getElem? (i := 3) rfl), Or.inl (tw_7 (List.mem_of_getElem? (i := 96) rfl))⟩
theorem y_Stacks_close : xY ⟨"PageScribe$Stacks", "close", "(LPageScribe;I)V"⟩ m_Stacks_close := ⟨rfl, rfl, by decide +kernel, Or.inl ⟨rfl, tw_7 (List.mem_of_getElem? (i := 98) rfl)⟩⟩
theorem cv_Slot_54 : xCv "PageScribe$Slot" 54 2 ⟨"PageScribe$Slot", "isNumber", "()Z"⟩ 0 := ⟨⟨by decide +kernel, by decide +kernel⟩, xpar_of (by decide +kernel), tw_6 (List.mem_of_getElem? (i := 228) rfl), ⟨_, rfl, tw_6 (List.mem_of_getElem? (i := 229) rfl)⟩, Or.inl (tw_7 (List.mem_of_getElem? (i := 113) rfl))⟩
theorem cv_Slot_58 : xCv "PageScribe$Slot" 58 2 ⟨"PageScribe$Slot", "value", "()D"⟩ 0 := ⟨⟨by decide +kernel, by decide +kernel⟩, xpar_of (by decide +kernel), tw_6 (List.mem_of_getElem? (i := 235) rfl), ⟨_, rfl, tw_6 (List.mem_of_getElem? (i := 236) rfl)⟩, Or.inl (tw_7 (List.mem_of_getElem? (i := 114) rfl))⟩
theorem sl_Slot_40 : xSl "PageScribe$Slot" 40 (vA 75) := ⟨_, List.mem_of_getElem? (i := 75) rfl, rfl, Or.inl (tw_5 (List.mem_of_getElem? (i := 117) rfl))⟩
theorem sl_Truths_56 : xSl "PageScribe$Truths" 56 (vA 72) := ⟨_, List.mem_of_getElem? (i := 72) rfl, rfl, Or.inl (tw_7 (List.mem_of_getElem? (i := 120) rfl))⟩
theorem cv_Truths_61 : xCv "PageScribe$Truths" 61 2 ⟨"PageScribe$Slot", "is", "(LPageScribe$Kind;)Z"⟩ 1 := ⟨⟨by decide +kernel, by decide +kernel⟩, xpar_of (by decide +kernel), tw_4 (List.mem_of_getElem? (i := 232) rfl), ⟨_, rfl, tw_4 (List.mem_of_getElem? (i := 233) rfl)⟩, Or.inl (tw_7 (List.mem_of_getElem? (i := 121) rfl))⟩
theorem sl_Truths_91 : xSl "PageScribe$Truths" 91 (vA 74) := ⟨_, List.mem_of_getElem? (i := 74) rfl, rfl, Or.inl (tw_7 (List.mem_of_getElem? (i := 122) rfl))⟩
theorem sl_Truths_94 : xSl "PageScribe$Truths" 94 (vA 27) := ⟨_, List.mem_of_getElem? (i := 27) rfl, rfl, Or.inl (tw_7 (List.mem_of_getElem? (i := 139) rfl))⟩
theorem sl_Truths_97 : xSl "PageScribe$Truths" 97 (vA 28) := ⟨_, List.mem_of_getElem? (i := 28) rfl, rfl, Or.inl (tw_7 (List.mem_of_getElem? (i := 141) rfl))⟩
theorem sl_Truths_100 : xSl "PageScribe$Truths" 100 (vA 29) := ⟨_, List.mem_of_getElem? (i := 29) rfl, rfl, Or.inl (tw_7 (List.mem_of_getElem? (i := 143) rfl))⟩
theorem cw_Truths_7_19 : xCu "PageScribe$Truths" 7 19 ⟨"PageScribe$Op", "ordinal", "()I"⟩ ⟨"java/lang/Enum", "ordinal", "()I"⟩ "java/lang/Enum" 0 := ⟨tw_7 (List.mem_of_getElem? (i := 105) rfl), tw_5 (List.mem_of_getElem? (i := 165) rfl), ⟨by decide +kernel, by decide +kernel⟩, Or.inl (tw_5 (List.mem_of_getElem? (i := 166) rfl)), ⟨_, rfl, tw_5 (List.mem_of_getElem? (i := 167) rfl)⟩, tw_5 (List.mem_of_getElem? (i := 168) rfl), xpar_of (by decide +kernel)⟩
theorem sl_Truths_13 : xSl "PageScribe$Truths" 13 (vA 23) := ⟨_, List.mem_of_getElem? (i := 23) rfl, rfl, Or.inl (tw_7 (List.mem_of_getElem? (i := 106) rfl))⟩
theorem cv_Truths_17 : xCv "PageScribe$Truths" 17 0 ⟨"PageScribe", "truth", "(IZ)V"⟩ 2 := ⟨⟨by decide +kernel, by decide +kernel⟩, xpar_of (by decide +kernel), tw_5 (List.mem_of_getElem? (i := 204) rfl), ⟨_, rfl, List.mem_append_left _ (List.mem_of_getElem? (i := 28) (by decide +kernel))⟩, Or.inr ⟨_, tw_7 (List.mem_of_getElem? (i := 108) rfl)⟩⟩
theorem cv_Truths_23 : xCv "PageScribe$Truths" 23 2 ⟨"PageScribe$Slot", "same", "(LPageScribe$Slot;)Z"⟩ 1 := ⟨⟨by decide +kernel, by decide +kernel⟩, xpar_of (by decide +kernel), tw_7 (List.mem_of_getElem? (i := 110) rfl), ⟨_, rfl, tw_7 (List.mem_of_getElem? (i := 111) rfl)⟩, Or.inl (tw_7 (List.mem_of_getElem? (i := 109) rfl))⟩
theorem y_Slot_same : xY ⟨"PageScribe$Slot", "same", "(LPageScribe$Slot;)Z"⟩ m_Slot_same := ⟨rfl, rfl, by decide +kernel, Or.inl ⟨rfl, tw_7 (List.mem_of_getElem? (i := 112) rfl)⟩⟩
theorem sl_Truths_29 : xSl "PageScribe$Truths" 29 (vA 25) := ⟨_, List.mem_of_getElem? (i := 25) rfl, rfl, Or.inl (tw_7 (List.mem_of_getElem? (i := 115) rfl))⟩
theorem l_Truths_32 : xFl "PageScribe$Truths" 32 2 0 := ⟨_, rfl, by decide, _, Or.inl rfl, Or.inr ⟨_, tw_4 (List.mem_of_getElem? (i := 162) rfl)⟩⟩
theorem cs_Truths_36 : xCt "PageScribe$Truths" 36 ⟨"PageScribe$Truths", "bits", "(LPageScribe$Slot;)Z"⟩ 1 := ⟨⟨by decide +kernel, by decide +kernel⟩, xpar_of (by decide +kernel), tw_7 (List.mem_of_getElem? (i := 118) rfl), tw_1 (List.mem_of_getElem? (i := 5) rfl), Or.inl (tw_7 (List.mem_of_getElem? (i := 117) rfl))⟩
theorem y_Truths_bits : xY ⟨"PageScribe$Truths", "bits", "(LPageScribe$Slot;)Z"⟩ m_Truths_bits := ⟨rfl, rfl, by decide +kernel, Or.inl ⟨rfl, tw_7 (List.mem_of_getElem? (i := 119) rfl)⟩⟩
theorem cv_Truths_41 : xCv "PageScribe$Truths" 41 0 ⟨"PageScribe", "type", "(Z)V"⟩ 1 := ⟨⟨by decide +kernel, by decide +kernel⟩, xpar_of (by decide +kernel), tw_5 (List.mem_of_getElem? (i := 193) rfl), ⟨_, rfl, List.mem_append_left _ (List.mem_of_getElem? (i := 26) (by decide +kernel))⟩, Or.inr ⟨_, tw_7 (List.mem_of_getElem? (i := 123) rfl)⟩⟩
theorem sl_Truths_45 : xSl "PageScribe$Truths" 45 (vA 31) := ⟨_, List.mem_of_getElem? (i := 31) rfl, rfl, Or.inl (tw_7 (List.mem_of_getElem? (i := 124) rfl))⟩
theorem l_Truths_48 : xFl "PageScribe$Truths" 48 2 2 := ⟨_, rfl, by decide, _, Or.inl rfl, Or.inr ⟨_, tw_4 (List.mem_of_getElem? (i := 174) rfl)⟩⟩
theorem cv_Truths_52 : xCv "PageScribe$Truths" 52 0 ⟨"PageScribe", "give", "(ILPageScribe$Kind;I)V"⟩ 3 := ⟨⟨by decide +kernel, by decide +kernel⟩, xpar_of (by decide +kernel), tw_5 (List.mem_of_getElem? (i := 209) rfl), ⟨_, rfl, List.mem_append_left _ (List.mem_of_getElem? (i := 29) (by decide +kernel))⟩, Or.inr ⟨_, tw_7 (List.mem_of_getElem? (i := 126) rfl)⟩⟩
theorem sl_Truths_65 : xSl "PageScribe$Truths" 65 (vA 35) := ⟨_, List.mem_of_getElem? (i := 35) rfl, rfl, Or.inl (tw_7 (List.mem_of_getElem? (i := 127) rfl))⟩
theorem sl_Truths_68 : xSl "PageScribe$Truths" 68 (vA 75) := ⟨_, List.mem_of_getElem? (i := 75) rfl, rfl, Or.inl (tw_7 (List.mem_of_getElem? (i := 129) rfl))⟩
theorem sl_Truths_71 : xSl "PageScribe$Truths" 71 (vA 77) := ⟨_, List.mem_of_getElem? (i := 77) rfl, rfl, Or.inl (tw_7 (List.mem_of_getElem? (i := 130) rfl))⟩
theorem l_Truths_74 : xFl "PageScribe$Truths" 74 2 1 := ⟨_, rfl, by decide, _, Or.inl rfl, Or.inr ⟨_, tw_4 (List.mem_of_getElem? (i := 166) rfl)⟩⟩
theorem cw_Truths_78_20 : xCu "PageScribe$Truths" 78 20 ⟨"PageScribe$Kind", "ordinal", "()I"⟩ ⟨"java/lang/Enum", "ordinal", "()I"⟩ "java/lang/Enum" 0 := ⟨tw_7 (List.mem_of_getElem? (i := 131) rfl), tw_7 (List.mem_of_getElem? (i := 132) rfl), ⟨by decide +kernel, by decide +kernel⟩, Or.inl (tw_5 (List.mem_of_getElem? (i := 166) rfl)), ⟨_, rfl, tw_7 (List.mem_of_getElem? (i := 133) rfl)⟩, tw_5 (List.mem_of_getElem? (i := 168) rfl), xpar_of (by decide +kernel)⟩
theorem cv_Truths_79 : xCv "PageScribe$Truths" 79 2 ⟨"PageScribe$Slot", "isNumber", "()Z"⟩ 0 := ⟨⟨by decide +kernel, by decide +kernel⟩, xpar_of (by decide +kernel), tw_6 (List.mem_of_getElem? (i := 228) rfl), ⟨_, rfl, tw_6 (List.mem_of_getElem? (i := 229) rfl)⟩, Or.inl (tw_7 (List.mem_of_getElem? (i := 134) rfl))⟩
theorem cv_Truths_83 : xCv "PageScribe$Truths" 83 2 ⟨"PageScribe$Slot", "value", "()D"⟩ 0 := ⟨⟨by decide +kernel, by decide +kernel⟩, xpar_of (by decide +kernel), tw_6 (List.mem_of_getElem? (i := 235) rfl), ⟨_, rfl, tw_6 (List.mem_of_getElem? (i := 236) rfl)⟩, Or.inl (tw_7 (List.mem_of_getElem? (i := 135) rfl))⟩
theorem cs_Truths_87 : xCt "PageScribe$Truths" 87 ⟨"PageScribe$Truths", "compares", "(LPageScribe$Op;DD)Z"⟩ 3 := ⟨⟨by decide +kernel, by decide +kernel⟩, xpar_of (by decide +kernel), tw_7 (List.mem_of_getElem? (i := 137) rfl), tw_1 (List.mem_of_getElem? (i := 5) rfl), Or.inl (tw_7 (List.mem_of_getElem? (i := 136) rfl))⟩
theorem y_Truths_compares : xY ⟨"PageScribe$Truths", "compares", "(LPageScribe$Op;DD)Z"⟩ m_Truths_compares := ⟨rfl, rfl, by decide +kernel, Or.inl ⟨rfl, tw_7 (List.mem_of_getElem? (i := 138) rfl)⟩⟩
theorem l_P_368 : xFl "PageScribe" 368 19 2 := ⟨_, rfl, by decide, _, Or.inl rfl, Or.inr ⟨_, tw_10 (List.mem_of_getElem? (i := 106) rfl)⟩⟩
theorem l_P_27 : xFl "PageScribe" 27 0 0 := ⟨_, rfl, by decide, _, Or.inl rfl, Or.inl (tw_3 (List.mem_of_getElem? (i := 122) rfl))⟩
theorem l_P_371 : xFl "PageScribe" 371 19 3 := ⟨_, rfl, by decide, _, Or.inl rfl, Or.inr ⟨_, tw_10 (List.mem_of_getElem? (i := 107) rfl)⟩⟩
theorem cw_P_374_10 : xCu "PageScribe" 374 10 ⟨"PageScribe$Group", "perform", "(LPageScribe;LPageScribe$Op;LPageScribe$Slot;LPageScribe$Slot;I)V"⟩ ⟨"PageScribe$Stacks", "perform", "(LPageScribe;LPageScribe$Op;LPageScribe$Slot;LPageScribe$Slot;I)V"⟩ "PageScribe$Group" 5 := ⟨tw_5 (List.mem_of_getElem? (i := 158) rfl), tw_5 (List.mem_of_getElem? (i := 160) rfl), ⟨by decide +kernel, by decide +kernel⟩, Or.inl (tw_5 (List.mem_of_getElem? (i := 159) rfl)), ⟨_, rfl, tw_7 (List.mem_of_getElem? (i := 62) rfl)⟩, tw_7 (List.mem_of_getElem? (i := 63) rfl), xpar_of (by decide +kernel)⟩
theorem y_Stacks_perform : xY ⟨"PageScribe$Stacks", "perform", "(LPageScribe;LPageScribe$Op;LPageScribe$Slot;LPageScribe$Slot;I)V"⟩ m_Stacks_perform := ⟨rfl, rfl, by decide +kernel, Or.inl ⟨rfl, tw_7 (List.mem_of_getElem? (i := 64) rfl)⟩⟩
theorem cw_P_374_11 : xCu "PageScribe" 374 11 ⟨"PageScribe$Group", "perform", "(LPageScribe;LPageScribe$Op;LPageScribe$Slot;LPageScribe$Slot;I)V"⟩ ⟨"PageScribe$Numbers", "perform", "(LPageScribe;LPageScribe$Op;LPageScribe$Slot;LPageScribe$Slot;I)V"⟩ "PageScribe$Group" 5 := ⟨tw_5 (List.mem_of_getElem? (i := 158) rfl), tw_5 (List.mem_of_getElem? (i := 160) rfl), ⟨by decide +kernel, by decide +kernel⟩, Or.inl (tw_5 (List.mem_of_getElem? (i := 159) rfl)), ⟨_, rfl, tw_6 (List.mem_of_getElem? (i := 218) rfl)⟩, tw_6 (List.mem_of_getElem? (i := 219) rfl), xpar_of (by decide +kernel)⟩
theorem y_Numbers_perform : xY ⟨"PageScribe$Numbers", "perform", "(LPageScribe;LPageScribe$Op;LPageScribe$Slot;LPageScribe$Slot;I)V"⟩ m_Numbers_perform := ⟨rfl, rfl, by decide +kernel, Or.inl ⟨rfl, tw_6 (List.mem_of_getElem? (i := 220) rfl)⟩⟩
theorem cw_P_374_12 : xCu "PageScribe" 374 12 ⟨"PageScribe$Group", "perform", "(LPageScribe;LPageScribe$Op;LPageScribe$Slot;LPageScribe$Slot;I)V"⟩ ⟨"PageScribe$Truths", "perform", "(LPageScribe;LPageScribe$Op;LPageScribe$Slot;LPageScribe$Slot;I)V"⟩ "PageScribe$Group" 5 := ⟨tw_5 (List.mem_of_getElem? (i := 158) rfl), tw_5 (List.mem_of_getElem? (i := 160) rfl), ⟨by decide +kernel, by decide +kernel⟩, Or.inl (tw_5 (List.mem_of_getElem? (i := 159) rfl)), ⟨_, rfl, tw_7 (List.mem_of_getElem? (i := 102) rfl)⟩, tw_7 (List.mem_of_getElem? (i := 103) rfl), xpar_of (by decide +kernel)⟩
theorem y_Truths_perform : xY ⟨"PageScribe$Truths", "perform", "(LPageScribe;LPageScribe$Op;LPageScribe$Slot;LPageScribe$Slot;I)V"⟩ m_Truths_perform := ⟨rfl, rfl, by decide +kernel, Or.inl ⟨rfl, tw_7 (List.mem_of_getElem? (i := 104) rfl)⟩⟩
theorem cw_P_374_13 : xCu "PageScribe" 374 13 ⟨"PageScribe$Group", "perform", "(LPageScribe;LPageScribe$Op;LPageScribe$Slot;LPageScribe$Slot;I)V"⟩ ⟨"PageScribe$Holders", "perform", "(LPageScribe;LPageScribe$Op;LPageScribe$Slot;LPageScribe$Slot;I)V"⟩ "PageScribe$Group" 5 := ⟨tw_5 (List.mem_of_getElem? (i := 158) rfl), tw_5 (List.mem_of_getElem? (i := 160) rfl), ⟨by decide +kernel, by decide +kernel⟩, Or.inl (tw_5 (List.mem_of_getElem? (i := 159) rfl)), ⟨_, rfl, tw_6 (List.mem_of_getElem? (i := 108) rfl)⟩, tw_6 (List.mem_of_getElem? (i := 109) rfl), xpar_of (by decide +kernel)⟩
theorem y_Holders_perform : xY ⟨"PageScribe$Holders", "perform", "(LPageScribe;LPageScribe$Op;LPageScribe$Slot;LPageScribe$Slot;I)V"⟩ m_Holders_perform := ⟨rfl, rfl, by decide +kernel, Or.inl ⟨rfl, tw_6 (List.mem_of_getElem? (i := 110) rfl)⟩⟩
theorem cw_P_374_14 : xCu "PageScribe" 374 14 ⟨"PageScribe$Group", "perform", "(LPageScribe;LPageScribe$Op;LPageScribe$Slot;LPageScribe$Slot;I)V"⟩ ⟨"PageScribe$Flow", "perform", "(LPageScribe;LPageScribe$Op;LPageScribe$Slot;LPageScribe$Slot;I)V"⟩ "PageScribe$Group" 5 := ⟨tw_5 (List.mem_of_getElem? (i := 158) rfl), tw_5 (List.mem_of_getElem? (i := 160) rfl), ⟨by decide +kernel, by decide +kernel⟩, Or.inl (tw_5 (List.mem_of_getElem? (i := 159) rfl)), ⟨_, rfl, tw_5 (List.mem_of_getElem? (i := 161) rfl)⟩, tw_5 (List.mem_of_getElem? (i := 162) rfl), xpar_of (by decide +kernel)⟩
theorem y_Flow_perform : xY ⟨"PageScribe$Flow", "perform", "(LPageScribe;LPageScribe$Op;LPageScribe$Slot;LPageScribe$Slot;I)V"⟩ m_Flow_perform := ⟨rfl, rfl, by decide +kernel, Or.inl ⟨rfl, tw_5 (List.mem_of_getElem? (i := 163) rfl)⟩⟩
theorem cw_P_374_15 : xCu "PageScribe" 374 15 ⟨"PageScribe$Group", "perform", "(LPageScribe;LPageScribe$Op;LPageScribe$Slot;LPageScribe$Slot;I)V"⟩ ⟨"PageScribe$Paint", "perform", "(LPageScribe;LPageScribe$Op;LPageScribe$Slot;LPageScribe$Slot;I)V"⟩ "PageScribe$Group" 5 := ⟨tw_5 (List.mem_of_getElem? (i := 158) rfl), tw_5 (List.mem_of_getElem? (i := 160) rfl), ⟨by decide +kernel, by decide +kernel⟩, Or.inl (tw_5 (List.mem_of_getElem? (i := 159) rfl)), ⟨_, rfl, tw_7 (List.mem_of_getElem? (i := 29) rfl)⟩, tw_7 (List.mem_of_getElem? (i := 30) rfl), xpar_of (by decide +kernel)⟩
theorem y_Paint_perform : xY ⟨"PageScribe$Paint", "perform", "(LPageScribe;LPageScribe$Op;LPageScribe$Slot;LPageScribe$Slot;I)V"⟩ m_Paint_perform := ⟨rfl, rfl, by decide +kernel, Or.inl ⟨rfl, tw_7 (List.mem_of_getElem? (i := 31) rfl)⟩⟩
theorem cv_P_342 : xCv "PageScribe" 342 0 ⟨"PageScribe", "find", "(LPageScribe$Name;)LPageScribe$Slot;"⟩ 1 := ⟨⟨by decide +kernel, by decide +kernel⟩, xpar_of (by decide +kernel), tw_5 (List.mem_of_getElem? (i := 132) rfl), ⟨_, rfl, List.mem_append_left _ (List.mem_of_getElem? (i := 21) (by decide +kernel))⟩, Or.inl (tw_5 (List.mem_of_getElem? (i := 130) rfl))⟩
theorem cv_P_343 : xCv "PageScribe" 343 3 ⟨"PageScribe$Name", "op", "()LPageScribe$Op;"⟩ 0 := ⟨⟨by decide +kernel, by decide +kernel⟩, xpar_of (by decide +kernel), tw_5 (List.mem_of_getElem? (i := 151) rfl), ⟨_, rfl, tw_5 (List.mem_of_getElem? (i := 152) rfl)⟩, Or.inl (tw_5 (List.mem_of_getElem? (i := 150) rfl))⟩
theorem y_Name_op : xY ⟨"PageScribe$Name", "op", "()LPageScribe$Op;"⟩ m_Name_op := ⟨rfl, rfl, by decide +kernel, Or.inl ⟨rfl, tw_5 (List.mem_of_getElem? (i := 153) rfl)⟩⟩
theorem cv_P_347 : xCv "PageScribe" 347 0 ⟨"PageScribe", "operate", "(LPageScribe$Op;I)V"⟩ 2 := ⟨⟨by decide +kernel, by decide +kernel⟩, xpar_of (by decide +kernel), tw_5 (List.mem_of_getElem? (i := 156) rfl), ⟨_, rfl, List.mem_append_left _ (List.mem_of_getElem? (i := 22) (by decide +kernel))⟩, Or.inl (tw_5 (List.mem_of_getElem? (i := 154) rfl))⟩
theorem y_P_operate : xY ⟨"PageScribe", "operate", "(LPageScribe$Op;I)V"⟩ m_P_operate := ⟨rfl, rfl, by decide +kernel, Or.inl ⟨rfl, tw_5 (List.mem_of_getElem? (i := 157) rfl)⟩⟩
theorem sl_P_320 : xSl "PageScribe" 320 (vA 75) := ⟨_, List.mem_of_getElem? (i := 75) rfl, rfl, Or.inl (tw_4 (List.mem_of_getElem? (i := 229) rfl))⟩
theorem cv_P_323 : xCv "PageScribe" 323 2 ⟨"PageScribe$Slot", "is", "(LPageScribe$Kind;)Z"⟩ 1 := ⟨⟨by decide +kernel, by decide +kernel⟩, xpar_of (by decide +kernel), tw_4 (List.mem_of_getElem? (i := 232) rfl), ⟨_, rfl, tw_4 (List.mem_of_getElem? (i := 233) rfl)⟩, Or.inl (tw_4 (List.mem_of_getElem? (i := 231) rfl))⟩
theorem cv_P_339 : xCv "PageScribe" 339 0 ⟨"PageScribe", "push", "(LPageScribe$Slot;)V"⟩ 1 := ⟨⟨by decide +kernel, by decide +kernel⟩, xpar_of (by decide +kernel), tw_6 (List.mem_of_getElem? (i := 103) rfl), ⟨_, rfl, List.mem_append_left _ (List.mem_of_getElem? (i := 33) (by decide +kernel))⟩, Or.inl (tw_7 (List.mem_of_getElem? (i := 145) rfl))⟩
theorem cv_P_317 : xCv "PageScribe" 317 0 ⟨"PageScribe", "step", "()V"⟩ 0 := ⟨⟨by decide +kernel, by decide +kernel⟩, xpar_of (by decide +kernel), tw_5 (List.mem_of_getElem? (i := 124) rfl), ⟨_, rfl, List.mem_append_left _ (List.mem_of_getElem? (i := 19) (by decide +kernel))⟩, Or.inl (tw_5 (List.mem_of_getElem? (i := 122) rfl))⟩
theorem l_P_331 : xFl "PageScribe" 331 2 6 := ⟨_, rfl, by decide, _, Or.inl rfl, Or.inr ⟨_, tw_4 (List.mem_of_getElem? (i := 186) rfl)⟩⟩
theorem cv_P_335 : xCv "PageScribe" 335 0 ⟨"PageScribe", "lookUp", "(LPageScribe$Name;I)V"⟩ 2 := ⟨⟨by decide +kernel, by decide +kernel⟩, xpar_of (by decide +kernel), tw_5 (List.mem_of_getElem? (i := 128) rfl), ⟨_, rfl, List.mem_append_left _ (List.mem_of_getElem? (i := 20) (by decide +kernel))⟩, Or.inl (tw_5 (List.mem_of_getElem? (i := 126) rfl))⟩
theorem y_P_lookUp : xY ⟨"PageScribe", "lookUp", "(LPageScribe$Name;I)V"⟩ m_P_lookUp := ⟨rfl, rfl, by decide +kernel, Or.inl ⟨rfl, tw_5 (List.mem_of_getElem? (i := 129) rfl)⟩⟩
theorem ci_Stacks_3 : xCi "PageScribe$Stacks" 3 ⟨"PageScribe$Group", "<init>", "()V"⟩ 0 := ⟨rfl, ⟨by decide +kernel, by decide +kernel⟩, xpar_of (by decide +kernel), tw_1 (List.mem_of_getElem? (i := 62) rfl), Or.inr ⟨_, tw_1 (List.mem_of_getElem? (i := 61) rfl)⟩⟩
theorem ci_Truths_1 : xCi "PageScribe$Truths" 1 ⟨"PageScribe$Group", "<init>", "()V"⟩ 0 := ⟨rfl, ⟨by decide +kernel, by decide +kernel⟩, xpar_of (by decide +kernel), tw_1 (List.mem_of_getElem? (i := 62) rfl), Or.inr ⟨_, tw_1 (List.mem_of_getElem? (i := 78) rfl)⟩⟩
theorem ci_Paint_3 : xCi "PageScribe$Paint" 3 ⟨"PageScribe$Group", "<init>", "()V"⟩ 0 := ⟨rfl, ⟨by decide +kernel, by decide +kernel⟩, xpar_of (by decide +kernel), tw_1 (List.mem_of_getElem? (i := 62) rfl), Or.inr ⟨_, tw_1 (List.mem_of_getElem? (i := 99) rfl)⟩⟩
theorem ci_StringBuilder_1 : xCi "java/lang/StringBuilder" 1 ⟨"java/lang/AbstractStringBuilder", "<init>", "(I)V"⟩ 1 := ⟨rfl, ⟨by decide +kernel, by decide +kernel⟩, xpar_of (by decide +kernel), tw_1 (List.mem_of_getElem? (i := 109) rfl), Or.inl (tw_1 (List.mem_of_getElem? (i := 108) rfl))⟩
theorem y_AbstractStringBuilder_init : xY ⟨"java/lang/AbstractStringBuilder", "<init>", "(I)V"⟩ m_AbstractStringBuilder_init := ⟨rfl, rfl, by decide +kernel, Or.inl ⟨rfl, tw_1 (List.mem_of_getElem? (i := 110) rfl)⟩⟩
theorem kl_P_7 : Cond.classLink "PageScribe" 7 "PageScribe$Group" ∈ lw_tbl := tw_1 (List.mem_of_getElem? (i := 54) rfl)
theorem ao_PageScribe_Group : Cond.arrayOver (.object "PageScribe$Group") ∈ lw_tbl := tw_1 (List.mem_of_getElem? (i := 55) rfl)
theorem nw_P_9 : xNw "PageScribe" 9 10 0 := ⟨_, rfl, tw_1 (List.mem_of_getElem? (i := 56) rfl), tw_1 (List.mem_of_getElem? (i := 57) rfl), tw_1 (List.mem_of_getElem? (i := 3) rfl)⟩
theorem ly_10 : xLy 10 := ⟨_, rfl, fun k h => absurd h (Nat.not_lt_zero k)⟩
theorem ci_P_11 : xCi "PageScribe" 11 ⟨"PageScribe$Stacks", "<init>", "()V"⟩ 0 := ⟨rfl, ⟨by decide +kernel, by decide +kernel⟩, xpar_of (by decide +kernel), tw_1 (List.mem_of_getElem? (i := 59) rfl), Or.inr ⟨_, tw_1 (List.mem_of_getElem? (i := 58) rfl)⟩⟩
theorem y_Stacks_init : xY ⟨"PageScribe$Stacks", "<init>", "()V"⟩ m_Stacks_init := ⟨rfl, rfl, by decide +kernel, Or.inl ⟨rfl, tw_1 (List.mem_of_getElem? (i := 60) rfl)⟩⟩
theorem nw_P_12 : xNw "PageScribe" 12 11 0 := ⟨_, rfl, tw_1 (List.mem_of_getElem? (i := 66) rfl), tw_1 (List.mem_of_getElem? (i := 67) rfl), tw_1 (List.mem_of_getElem? (i := 4) rfl)⟩
theorem ly_11 : xLy 11 := ⟨_, rfl, fun k h => absurd h (Nat.not_lt_zero k)⟩
theorem ci_P_14 : xCi "PageScribe" 14 ⟨"PageScribe$Numbers", "<init>", "()V"⟩ 0 := ⟨rfl, ⟨by decide +kernel, by decide +kernel⟩, xpar_of (by decide +kernel), tw_1 (List.mem_of_getElem? (i := 69) rfl), Or.inr ⟨_, tw_1 (List.mem_of_getElem? (i := 68) rfl)⟩⟩
theorem y_Numbers_init : xY ⟨"PageScribe$Numbers", "<init>", "()V"⟩ m_Numbers_init := ⟨rfl, rfl, by decide +kernel, Or.inl ⟨rfl, tw_1 (List.mem_of_getElem? (i := 70) rfl)⟩⟩
theorem nw_P_15 : xNw "PageScribe" 15 12 0 := ⟨_, rfl, tw_1 (List.mem_of_getElem? (i := 73) rfl), tw_1 (List.mem_of_getElem? (i := 74) rfl), tw_1 (List.mem_of_getElem? (i := 5) rfl)⟩
theorem ly_12 : xLy 12 := ⟨_, rfl, fun k h => absurd h (Nat.not_lt_zero k)⟩
theorem ci_P_17 : xCi "PageScribe" 17 ⟨"PageScribe$Truths", "<init>", "()V"⟩ 0 := ⟨rfl, ⟨by decide +kernel, by decide +kernel⟩, xpar_of (by decide +kernel), tw_1 (List.mem_of_getElem? (i := 76) rfl), Or.inr ⟨_, tw_1 (List.mem_of_getElem? (i := 75) rfl)⟩⟩
theorem y_Truths_init : xY ⟨"PageScribe$Truths", "<init>", "()V"⟩ m_Truths_init := ⟨rfl, rfl, by decide +kernel, Or.inl ⟨rfl, tw_1 (List.mem_of_getElem? (i := 77) rfl)⟩⟩
theorem nw_P_18 : xNw "PageScribe" 18 13 0 := ⟨_, rfl, tw_1 (List.mem_of_getElem? (i := 80) rfl), tw_1 (List.mem_of_getElem? (i := 81) rfl), tw_1 (List.mem_of_getElem? (i := 6) rfl)⟩
theorem ly_13 : xLy 13 := ⟨_, rfl, fun k h => absurd h (Nat.not_lt_zero k)⟩
theorem ci_P_20 : xCi "PageScribe" 20 ⟨"PageScribe$Holders", "<init>", "()V"⟩ 0 := ⟨rfl, ⟨by decide +kernel, by decide +kernel⟩, xpar_of (by decide +kernel), tw_1 (List.mem_of_getElem? (i := 83) rfl), Or.inr ⟨_, tw_1 (List.mem_of_getElem? (i := 82) rfl)⟩⟩
theorem y_Holders_init : xY ⟨"PageScribe$Holders", "<init>", "()V"⟩ m_Holders_init := ⟨rfl, rfl, by decide +kernel, Or.inl ⟨rfl, tw_1 (List.mem_of_getElem? (i := 84) rfl)⟩⟩
theorem nw_P_21 : xNw "PageScribe" 21 14 0 := ⟨_, rfl, tw_1 (List.mem_of_getElem? (i := 87) rfl), tw_1 (List.mem_of_getElem? (i := 88) rfl), tw_1 (List.mem_of_getElem? (i := 7) rfl)⟩
theorem ly_14 : xLy 14 := ⟨_, rfl, fun k h => absurd h (Nat.not_lt_zero k)⟩
theorem ci_P_23 : xCi "PageScribe" 23 ⟨"PageScribe$Flow", "<init>", "()V"⟩ 0 := ⟨rfl, ⟨by decide +kernel, by decide +kernel⟩, xpar_of (by decide +kernel), tw_1 (List.mem_of_getElem? (i := 90) rfl), Or.inr ⟨_, tw_1 (List.mem_of_getElem? (i := 89) rfl)⟩⟩
theorem y_Flow_init : xY ⟨"PageScribe$Flow", "<init>", "()V"⟩ m_Flow_init := ⟨rfl, rfl, by decide +kernel, Or.inl ⟨rfl, tw_1 (List.mem_of_getElem? (i := 91) rfl)⟩⟩
theorem nw_P_24 : xNw "PageScribe" 24 15 0 := ⟨_, rfl, tw_1 (List.mem_of_getElem? (i := 94) rfl), tw_1 (List.mem_of_getElem? (i := 95) rfl), tw_1 (List.mem_of_getElem? (i := 8) rfl)⟩
theorem ly_15 : xLy 15 := ⟨_, rfl, fun k h => absurd h (Nat.not_lt_zero k)⟩
theorem ci_P_26 : xCi "PageScribe" 26 ⟨"PageScribe$Paint", "<init>", "()V"⟩ 0 := ⟨rfl, ⟨by decide +kernel, by decide +kernel⟩, xpar_of (by decide +kernel), tw_1 (List.mem_of_getElem? (i := 97) rfl), Or.inr ⟨_, tw_1 (List.mem_of_getElem? (i := 96) rfl)⟩⟩
theorem y_Paint_init : xY ⟨"PageScribe$Paint", "<init>", "()V"⟩ m_Paint_init := ⟨rfl, rfl, by decide +kernel, Or.inl ⟨rfl, tw_1 (List.mem_of_getElem? (i := 98) rfl)⟩⟩
theorem fp_0_0 : xFp 0 0 true := ⟨_, rfl, by decide, tw_3 (List.mem_of_getElem? (i := 184) rfl), by rfl, rfl⟩
theorem fo_P_27 : ∃ q : vw_C, xCl[0]? = some q ∧ (q.2.1 0).1 = "PageScribe" ∧ Cond.fieldLink "PageScribe" 27 "PageScribe" (q.2.1 0).2.1 (q.2.1 0).2.2.1 ∈ lw_tbl := ⟨_, rfl, rfl, tw_3 (List.mem_of_getElem? (i := 122) rfl)⟩
theorem kl_P_33 : Cond.classLink "PageScribe" 33 "PageScribe$Name" ∈ lw_tbl := tw_1 (List.mem_of_getElem? (i := 101) rfl)
theorem ao_PageScribe_Name : Cond.arrayOver (.object "PageScribe$Name") ∈ lw_tbl := tw_1 (List.mem_of_getElem? (i := 102) rfl)
theorem l_P_35 : xFl "PageScribe" 35 0 1 := ⟨_, rfl, by decide, _, Or.inl rfl, Or.inl (tw_3 (List.mem_of_getElem? (i := 123) rfl))⟩
theorem fp_0_1 : xFp 0 1 true := ⟨_, rfl, by decide, tw_3 (List.mem_of_getElem? (i := 186) rfl), by rfl, rfl⟩
theorem fo_P_35 : ∃ q : vw_C, xCl[0]? = some q ∧ (q.2.1 1).1 = "PageScribe" ∧ Cond.fieldLink "PageScribe" 35 "PageScribe" (q.2.1 1).2.1 (q.2.1 1).2.2.1 ∈ lw_tbl := ⟨_, rfl, rfl, tw_3 (List.mem_of_getElem? (i := 123) rfl)⟩
theorem nw_P_39 : xNw "PageScribe" 39 16 4 := ⟨_, rfl, tw_1 (List.mem_of_getElem? (i := 103) rfl), tw_1 (List.mem_of_getElem? (i := 104) rfl), tw_1 (List.mem_of_getElem? (i := 10) rfl)⟩
theorem ci_P_41 : xCi "PageScribe" 41 ⟨"java/lang/StringBuilder", "<init>", "(I)V"⟩ 1 := ⟨rfl, ⟨by decide +kernel, by decide +kernel⟩, xpar_of (by decide +kernel), tw_1 (List.mem_of_getElem? (i := 106) rfl), Or.inl (tw_1 (List.mem_of_getElem? (i := 105) rfl))⟩
theorem y_StringBuilder_init1 : xY ⟨"java/lang/StringBuilder", "<init>", "(I)V"⟩ m_StringBuilder_init1 := ⟨rfl, rfl, by decide +kernel, Or.inl ⟨rfl, tw_1 (List.mem_of_getElem? (i := 107) rfl)⟩⟩
theorem fp_0_2 : xFp 0 2 true := ⟨_, rfl, by decide, tw_3 (List.mem_of_getElem? (i := 188) rfl), by rfl, rfl⟩
theorem fo_P_44 : ∃ q : vw_C, xCl[0]? = some q ∧ (q.2.1 2).1 = "PageScribe" ∧ Cond.fieldLink "PageScribe" 44 "PageScribe" (q.2.1 2).2.1 (q.2.1 2).2.2.1 ∈ lw_tbl := ⟨_, rfl, rfl, tw_3 (List.mem_of_getElem? (i := 124) rfl)⟩
theorem l_P_48 : xFl "PageScribe" 48 0 3 := ⟨_, rfl, by decide, _, Or.inl rfl, Or.inl (tw_3 (List.mem_of_getElem? (i := 125) rfl))⟩
theorem fp_0_3 : xFp 0 3 true := ⟨_, rfl, by decide, tw_3 (List.mem_of_getElem? (i := 190) rfl), by rfl, rfl⟩
theorem fo_P_48 : ∃ q : vw_C, xCl[0]? = some q ∧ (q.2.1 3).1 = "PageScribe" ∧ Cond.fieldLink "PageScribe" 48 "PageScribe" (q.2.1 3).2.1 (q.2.1 3).2.2.1 ∈ lw_tbl := ⟨_, rfl, rfl, tw_3 (List.mem_of_getElem? (i := 125) rfl)⟩
theorem kl_P_51 : Cond.classLink "PageScribe" 51 "PageScribe$Slot" ∈ lw_tbl := tw_1 (List.mem_of_getElem? (i := 136) rfl)
theorem ao_PageScribe_Slot : Cond.arrayOver (.object "PageScribe$Slot") ∈ lw_tbl := tw_1 (List.mem_of_getElem? (i := 137) rfl)
theorem fp_0_6 : xFp 0 6 true := ⟨_, rfl, by decide, tw_3 (List.mem_of_getElem? (i := 196) rfl), by rfl, rfl⟩
theorem fo_P_53 : ∃ q : vw_C, xCl[0]? = some q ∧ (q.2.1 6).1 = "PageScribe" ∧ Cond.fieldLink "PageScribe" 53 "PageScribe" (q.2.1 6).2.1 (q.2.1 6).2.2.1 ∈ lw_tbl := ⟨_, rfl, rfl, tw_3 (List.mem_of_getElem? (i := 128) rfl)⟩
theorem fp_0_7 : xFp 0 7 true := ⟨_, rfl, by decide, tw_3 (List.mem_of_getElem? (i := 198) rfl), by rfl, rfl⟩
theorem fo_P_57 : ∃ q : vw_C, xCl[0]? = some q ∧ (q.2.1 7).1 = "PageScribe" ∧ Cond.fieldLink "PageScribe" 57 "PageScribe" (q.2.1 7).2.1 (q.2.1 7).2.2.1 ∈ lw_tbl := ⟨_, rfl, rfl, tw_3 (List.mem_of_getElem? (i := 131) rfl)⟩
theorem fp_0_8 : xFp 0 8 true := ⟨_, rfl, by decide, tw_3 (List.mem_of_getElem? (i := 200) rfl), by rfl, rfl⟩
theorem fo_P_60 : ∃ q : vw_C, xCl[0]? = some q ∧ (q.2.1 8).1 = "PageScribe" ∧ Cond.fieldLink "PageScribe" 60 "PageScribe" (q.2.1 8).2.1 (q.2.1 8).2.2.1 ∈ lw_tbl := ⟨_, rfl, rfl, tw_3 (List.mem_of_getElem? (i := 135) rfl)⟩
theorem nw_P_63 : xNw "PageScribe" 63 17 3 := ⟨_, rfl, tw_1 (List.mem_of_getElem? (i := 138) rfl), tw_1 (List.mem_of_getElem? (i := 139) rfl), tw_1 (List.mem_of_getElem? (i := 15) rfl)⟩
theorem ly_17 : xLy 17 := ⟨_, rfl, fun k h => match k, h with | 0, _ => ⟨tw_2 (List.mem_of_getElem? (i := 206) rfl), rfl⟩ | 1, _ => ⟨tw_2 (List.mem_of_getElem? (i := 208) rfl), rfl⟩ | 2, _ => ⟨tw_2 (List.mem_of_getElem? (i := 210) rfl), rfl⟩ | k + 3, h => absurd h (by show ¬ k + 3 < 3; omega)⟩
theorem ci_P_65 : xCi "PageScribe" 65 ⟨"java/util/ArrayList", "<init>", "(I)V"⟩ 1 := ⟨rfl, ⟨by decide +kernel, by decide +kernel⟩, xpar_of (by decide +kernel), tw_1 (List.mem_of_getElem? (i := 141) rfl), Or.inl (tw_1 (List.mem_of_getElem? (i := 140) rfl))⟩
theorem y_ArrayList_init : xY ⟨"java/util/ArrayList", "<init>", "(I)V"⟩ m_ArrayList_init := ⟨rfl, rfl, by decide +kernel, Or.inl ⟨rfl, tw_1 (List.mem_of_getElem? (i := 142) rfl)⟩⟩
theorem fp_0_12 : xFp 0 12 true := ⟨_, rfl, by decide, tw_3 (List.mem_of_getElem? (i := 208) rfl), by rfl, rfl⟩
theorem fo_P_66 : ∃ q : vw_C, xCl[0]? = some q ∧ (q.2.1 12).1 = "PageScribe" ∧ Cond.fieldLink "PageScribe" 66 "PageScribe" (q.2.1 12).2.1 (q.2.1 12).2.2.1 ∈ lw_tbl := ⟨_, rfl, rfl, tw_3 (List.mem_of_getElem? (i := 143) rfl)⟩
theorem kl_P_70 : Cond.classLink "PageScribe" 70 "PageScribe$Dict" ∈ lw_tbl := tw_2 (List.mem_of_getElem? (i := 213) rfl)
theorem ao_PageScribe_Dict : Cond.arrayOver (.object "PageScribe$Dict") ∈ lw_tbl := tw_2 (List.mem_of_getElem? (i := 214) rfl)
theorem fp_0_13 : xFp 0 13 true := ⟨_, rfl, by decide, tw_3 (List.mem_of_getElem? (i := 210) rfl), by rfl, rfl⟩
theorem fo_P_72 : ∃ q : vw_C, xCl[0]? = some q ∧ (q.2.1 13).1 = "PageScribe" ∧ Cond.fieldLink "PageScribe" 72 "PageScribe" (q.2.1 13).2.1 (q.2.1 13).2.2.1 ∈ lw_tbl := ⟨_, rfl, rfl, tw_3 (List.mem_of_getElem? (i := 145) rfl)⟩
theorem fp_0_19 : xFp 0 19 true := ⟨_, rfl, by decide, tw_3 (List.mem_of_getElem? (i := 222) rfl), by rfl, rfl⟩
theorem fo_P_80 : ∃ q : vw_C, xCl[0]? = some q ∧ (q.2.1 19).1 = "PageScribe" ∧ Cond.fieldLink "PageScribe" 80 "PageScribe" (q.2.1 19).2.1 (q.2.1 19).2.2.1 ∈ lw_tbl := ⟨_, rfl, rfl, tw_3 (List.mem_of_getElem? (i := 154) rfl)⟩
theorem fp_0_20 : xFp 0 20 true := ⟨_, rfl, by decide, tw_3 (List.mem_of_getElem? (i := 224) rfl), by rfl, rfl⟩
theorem fo_P_84 : ∃ q : vw_C, xCl[0]? = some q ∧ (q.2.1 20).1 = "PageScribe" ∧ Cond.fieldLink "PageScribe" 84 "PageScribe" (q.2.1 20).2.1 (q.2.1 20).2.2.1 ∈ lw_tbl := ⟨_, rfl, rfl, tw_3 (List.mem_of_getElem? (i := 155) rfl)⟩
theorem kl_P_87 : Cond.classLink "PageScribe" 87 "PageScribe$Save" ∈ lw_tbl := tw_2 (List.mem_of_getElem? (i := 215) rfl)
theorem ao_PageScribe_Save : Cond.arrayOver (.object "PageScribe$Save") ∈ lw_tbl := tw_2 (List.mem_of_getElem? (i := 216) rfl)
theorem fp_0_25 : xFp 0 25 true := ⟨_, rfl, by decide, tw_3 (List.mem_of_getElem? (i := 234) rfl), by rfl, rfl⟩
theorem fo_P_89 : ∃ q : vw_C, xCl[0]? = some q ∧ (q.2.1 25).1 = "PageScribe" ∧ Cond.fieldLink "PageScribe" 89 "PageScribe" (q.2.1 25).2.1 (q.2.1 25).2.2.1 ∈ lw_tbl := ⟨_, rfl, rfl, tw_3 (List.mem_of_getElem? (i := 164) rfl)⟩
theorem fp_0_30 : xFp 0 30 true := ⟨_, rfl, by decide, tw_4 (List.mem_of_getElem? (i := 4) rfl), by rfl, rfl⟩
theorem fo_P_97 : ∃ q : vw_C, xCl[0]? = some q ∧ (q.2.1 30).1 = "PageScribe" ∧ Cond.fieldLink "PageScribe" 97 "PageScribe" (q.2.1 30).2.1 (q.2.1 30).2.2.1 ∈ lw_tbl := ⟨_, rfl, rfl, tw_3 (List.mem_of_getElem? (i := 170) rfl)⟩
theorem fp_0_31 : xFp 0 31 true := ⟨_, rfl, by decide, tw_4 (List.mem_of_getElem? (i := 6) rfl), by rfl, rfl⟩
theorem fo_P_101 : ∃ q : vw_C, xCl[0]? = some q ∧ (q.2.1 31).1 = "PageScribe" ∧ Cond.fieldLink "PageScribe" 101 "PageScribe" (q.2.1 31).2.1 (q.2.1 31).2.2.1 ∈ lw_tbl := ⟨_, rfl, rfl, tw_3 (List.mem_of_getElem? (i := 172) rfl)⟩
theorem fp_0_32 : xFp 0 32 true := ⟨_, rfl, by decide, tw_4 (List.mem_of_getElem? (i := 8) rfl), by rfl, rfl⟩
theorem fo_P_104 : ∃ q : vw_C, xCl[0]? = some q ∧ (q.2.1 32).1 = "PageScribe" ∧ Cond.fieldLink "PageScribe" 104 "PageScribe" (q.2.1 32).2.1 (q.2.1 32).2.2.1 ∈ lw_tbl := ⟨_, rfl, rfl, tw_3 (List.mem_of_getElem? (i := 174) rfl)⟩
theorem fp_0_33 : xFp 0 33 true := ⟨_, rfl, by decide, tw_4 (List.mem_of_getElem? (i := 10) rfl), by rfl, rfl⟩
theorem fo_P_107 : ∃ q : vw_C, xCl[0]? = some q ∧ (q.2.1 33).1 = "PageScribe" ∧ Cond.fieldLink "PageScribe" 107 "PageScribe" (q.2.1 33).2.1 (q.2.1 33).2.2.1 ∈ lw_tbl := ⟨_, rfl, rfl, tw_3 (List.mem_of_getElem? (i := 176) rfl)⟩
theorem fp_0_34 : xFp 0 34 true := ⟨_, rfl, by decide, tw_4 (List.mem_of_getElem? (i := 12) rfl), by rfl, rfl⟩
theorem fo_P_110 : ∃ q : vw_C, xCl[0]? = some q ∧ (q.2.1 34).1 = "PageScribe" ∧ Cond.fieldLink "PageScribe" 110 "PageScribe" (q.2.1 34).2.1 (q.2.1 34).2.2.1 ∈ lw_tbl := ⟨_, rfl, rfl, tw_3 (List.mem_of_getElem? (i := 177) rfl)⟩
theorem kl_P_113 : Cond.classLink "PageScribe" 113 "[[B" ∈ lw_tbl := tw_2 (List.mem_of_getElem? (i := 217) rfl)
theorem fp_0_37 : xFp 0 37 true := ⟨_, rfl, by decide, tw_4 (List.mem_of_getElem? (i := 18) rfl), by rfl, rfl⟩
theorem fo_P_115 : ∃ q : vw_C, xCl[0]? = some q ∧ (q.2.1 37).1 = "PageScribe" ∧ Cond.fieldLink "PageScribe" 115 "PageScribe" (q.2.1 37).2.1 (q.2.1 37).2.2.1 ∈ lw_tbl := ⟨_, rfl, rfl, tw_3 (List.mem_of_getElem? (i := 181) rfl)⟩
theorem fp_0_38 : xFp 0 38 true := ⟨_, rfl, by decide, tw_4 (List.mem_of_getElem? (i := 20) rfl), by rfl, rfl⟩
theorem fo_P_118 : ∃ q : vw_C, xCl[0]? = some q ∧ (q.2.1 38).1 = "PageScribe" ∧ Cond.fieldLink "PageScribe" 118 "PageScribe" (q.2.1 38).2.1 (q.2.1 38).2.2.1 ∈ lw_tbl := ⟨_, rfl, rfl, tw_3 (List.mem_of_getElem? (i := 182) rfl)⟩
theorem fp_0_39 : xFp 0 39 true := ⟨_, rfl, by decide, tw_4 (List.mem_of_getElem? (i := 22) rfl), by rfl, rfl⟩
theorem fo_P_121 : ∃ q : vw_C, xCl[0]? = some q ∧ (q.2.1 39).1 = "PageScribe" ∧ Cond.fieldLink "PageScribe" 121 "PageScribe" (q.2.1 39).2.1 (q.2.1 39).2.2.1 ∈ lw_tbl := ⟨_, rfl, rfl, tw_3 (List.mem_of_getElem? (i := 183) rfl)⟩
theorem sl_P_124 : xSl "PageScribe" 124 (vA 224) := ⟨_, List.mem_of_getElem? (i := 80) rfl, rfl, Or.inl (tw_2 (List.mem_of_getElem? (i := 219) rfl))⟩
theorem l_P_128 : xFl "PageScribe" 128 19 1 := ⟨_, rfl, by decide, _, Or.inl rfl, Or.inr ⟨_, tw_10 (List.mem_of_getElem? (i := 105) rfl)⟩⟩
theorem cv_P_133 : xCv "PageScribe" 133 18 ⟨"java/lang/String", "charAt", "(I)C"⟩ 1 := ⟨⟨by decide +kernel, by decide +kernel⟩, xpar_of (by decide +kernel), tw_2 (List.mem_of_getElem? (i := 222) rfl), ⟨_, rfl, tw_2 (List.mem_of_getElem? (i := 223) rfl)⟩, Or.inl (tw_2 (List.mem_of_getElem? (i := 221) rfl))⟩
theorem cv_P_139 : xCv "PageScribe" 139 18 ⟨"java/lang/String", "length", "()I"⟩ 0 := ⟨⟨by decide +kernel, by decide +kernel⟩, xpar_of (by decide +kernel), tw_2 (List.mem_of_getElem? (i := 41) rfl), ⟨_, rfl, tw_2 (List.mem_of_getElem? (i := 42) rfl)⟩, Or.inl (tw_3 (List.mem_of_getElem? (i := 5) rfl))⟩
theorem cs_P_143 : xCt "PageScribe" 143 ⟨"PageScribe", "bucket", "(CCI)I"⟩ 3 := ⟨⟨by decide +kernel, by decide +kernel⟩, xpar_of (by decide +kernel), tw_3 (List.mem_of_getElem? (i := 7) rfl), tw_1 (List.mem_of_getElem? (i := 1) rfl), Or.inl (tw_3 (List.mem_of_getElem? (i := 6) rfl))⟩
theorem y_P_bucket : xY ⟨"PageScribe", "bucket", "(CCI)I"⟩ m_P_bucket := ⟨rfl, rfl, by decide +kernel, Or.inl ⟨rfl, tw_3 (List.mem_of_getElem? (i := 8) rfl)⟩⟩
theorem nw_P_33 : xNw "PageScribe" 33 3 3 := ⟨_, rfl, tw_1 (List.mem_of_getElem? (i := 101) rfl), tw_3 (List.mem_of_getElem? (i := 9) rfl), tw_1 (List.mem_of_getElem? (i := 28) rfl)⟩
theorem ly_3 : xLy 3 := ⟨_, rfl, fun k h => match k, h with | 0, _ => ⟨tw_3 (List.mem_of_getElem? (i := 20) rfl), rfl⟩ | 1, _ => ⟨tw_3 (List.mem_of_getElem? (i := 22) rfl), rfl⟩ | 2, _ => ⟨tw_3 (List.mem_of_getElem? (i := 24) rfl), rfl⟩ | k + 3, h => absurd h (by show ¬ k + 3 < 3; omega)⟩
theorem ci_P_147 : xCi "PageScribe" 147 ⟨"PageScribe$Name", "<init>", "(Ljava/lang/String;LPageScribe$Op;LPageScribe$Name;)V"⟩ 3 := ⟨rfl, ⟨by decide +kernel, by decide +kernel⟩, xpar_of (by decide +kernel), tw_3 (List.mem_of_getElem? (i := 11) rfl), Or.inr ⟨_, tw_3 (List.mem_of_getElem? (i := 10) rfl)⟩⟩
theorem y_Name_init : xY ⟨"PageScribe$Name", "<init>", "(Ljava/lang/String;LPageScribe$Op;LPageScribe$Name;)V"⟩ m_Name_init := ⟨rfl, rfl, by decide +kernel, Or.inl ⟨rfl, tw_3 (List.mem_of_getElem? (i := 12) rfl)⟩⟩
theorem nw_P_70 : xNw "PageScribe" 70 4 4 := ⟨_, rfl, tw_2 (List.mem_of_getElem? (i := 213) rfl), tw_3 (List.mem_of_getElem? (i := 29) rfl), tw_1 (List.mem_of_getElem? (i := 29) rfl)⟩
theorem ci_P_150 : xCi "PageScribe" 150 ⟨"PageScribe$Dict", "<init>", "(II)V"⟩ 2 := ⟨rfl, ⟨by decide +kernel, by decide +kernel⟩, xpar_of (by decide +kernel), tw_3 (List.mem_of_getElem? (i := 31) rfl), Or.inl (tw_3 (List.mem_of_getElem? (i := 30) rfl))⟩
theorem cv_P_153 : xCv "PageScribe" 153 17 ⟨"java/util/ArrayList", "add", "(Ljava/lang/Object;)Z"⟩ 1 := ⟨⟨by decide +kernel, by decide +kernel⟩, xpar_of (by decide +kernel), tw_3 (List.mem_of_getElem? (i := 52) rfl), ⟨_, rfl, tw_3 (List.mem_of_getElem? (i := 53) rfl)⟩, Or.inl (tw_3 (List.mem_of_getElem? (i := 51) rfl))⟩
theorem cv_P_157 : xCv "PageScribe" 157 17 ⟨"java/util/ArrayList", "get", "(I)Ljava/lang/Object;"⟩ 1 := ⟨⟨by decide +kernel, by decide +kernel⟩, xpar_of (by decide +kernel), tw_3 (List.mem_of_getElem? (i := 111) rfl), ⟨_, rfl, tw_3 (List.mem_of_getElem? (i := 112) rfl)⟩, Or.inl (tw_3 (List.mem_of_getElem? (i := 110) rfl))⟩
theorem nw_P_494 : xNw "PageScribe" 494 23 6 := ⟨_, rfl, tw_7 (List.mem_of_getElem? (i := 160) rfl), tw_7 (List.mem_of_getElem? (i := 161) rfl), tw_1 (List.mem_of_getElem? (i := 32) rfl)⟩
theorem ex_P_496 : xEx "PageScribe" 496 23 ["java/lang/RuntimeException", "java/lang/Exception"] := xex_of _ rfl rfl (by decide +kernel) (by decide +kernel) (by decide +kernel)
theorem cv_P_497 : xCv "PageScribe" 497 0 ⟨"PageScribe", "seen", "(I)LPageScribe$Slot;"⟩ 1 := ⟨⟨by decide +kernel, by decide +kernel⟩, xpar_of (by decide +kernel), tw_7 (List.mem_of_getElem? (i := 158) rfl), ⟨_, rfl, List.mem_append_left _ (List.mem_of_getElem? (i := 46) (by decide +kernel))⟩, Or.inl (tw_7 (List.mem_of_getElem? (i := 156) rfl))⟩
theorem y_P_seen : xY ⟨"PageScribe", "seen", "(I)LPageScribe$Slot;"⟩ m_P_seen := ⟨rfl, rfl, by decide +kernel, Or.inl ⟨rfl, tw_7 (List.mem_of_getElem? (i := 159) rfl)⟩⟩
theorem l_P_500 : xFl "PageScribe" 500 2 0 := ⟨_, rfl, by decide, _, Or.inl rfl, Or.inr ⟨_, tw_4 (List.mem_of_getElem? (i := 163) rfl)⟩⟩
theorem cw_P_503_20 : xCu "PageScribe" 503 20 ⟨"PageScribe$Kind", "ordinal", "()I"⟩ ⟨"java/lang/Enum", "ordinal", "()I"⟩ "java/lang/Enum" 0 := ⟨tw_7 (List.mem_of_getElem? (i := 175) rfl), tw_7 (List.mem_of_getElem? (i := 132) rfl), ⟨by decide +kernel, by decide +kernel⟩, Or.inl (tw_5 (List.mem_of_getElem? (i := 166) rfl)), ⟨_, rfl, tw_7 (List.mem_of_getElem? (i := 133) rfl)⟩, tw_5 (List.mem_of_getElem? (i := 168) rfl), xpar_of (by decide +kernel)⟩
theorem cv_String_552 : xCv "java/lang/String" 552 16 ⟨"java/lang/AbstractStringBuilder", "getValue", "()[B"⟩ 0 := ⟨⟨by decide +kernel, by decide +kernel⟩, xpar_of (by decide +kernel), tw_2 (List.mem_of_getElem? (i := 122) rfl), ⟨_, rfl, tw_2 (List.mem_of_getElem? (i := 124) rfl)⟩, Or.inl (tw_2 (List.mem_of_getElem? (i := 121) rfl))⟩
theorem y_AbstractStringBuilder_getValue : xY ⟨"java/lang/AbstractStringBuilder", "getValue", "()[B"⟩ m_AbstractStringBuilder_getValue := ⟨rfl, rfl, by decide +kernel, Or.inl ⟨rfl, tw_2 (List.mem_of_getElem? (i := 125) rfl)⟩⟩
theorem cw_String_549_16 : xCu "java/lang/String" 549 16 ⟨"java/lang/AbstractStringBuilder", "length", "()I"⟩ ⟨"java/lang/StringBuilder", "length", "()I"⟩ "java/lang/AbstractStringBuilder" 0 := ⟨tw_2 (List.mem_of_getElem? (i := 126) rfl), tw_2 (List.mem_of_getElem? (i := 128) rfl), ⟨by decide +kernel, by decide +kernel⟩, Or.inr ⟨tw_2 (List.mem_of_getElem? (i := 127) rfl), _, _, _, tw_2 (List.mem_of_getElem? (i := 133) rfl)⟩, ⟨_, rfl, tw_2 (List.mem_of_getElem? (i := 129) rfl)⟩, tw_2 (List.mem_of_getElem? (i := 130) rfl), xpar_of (by decide +kernel)⟩
theorem cv_String_1047 : xCv "java/lang/String" 1047 16 ⟨"java/lang/AbstractStringBuilder", "isLatin1", "()Z"⟩ 0 := ⟨⟨by decide +kernel, by decide +kernel⟩, xpar_of (by decide +kernel), tw_2 (List.mem_of_getElem? (i := 10) rfl), ⟨_, rfl, tw_2 (List.mem_of_getElem? (i := 12) rfl)⟩, Or.inl (tw_2 (List.mem_of_getElem? (i := 134) rfl))⟩
theorem fp_18_1 : xFp 18 1 true := ⟨_, rfl, by decide, tw_2 (List.mem_of_getElem? (i := 193) rfl), by rfl, rfl⟩
theorem fo_String_15 : ∃ q : vw_C, xCl[18]? = some q ∧ (q.2.1 1).1 = "java/lang/String" ∧ Cond.fieldLink "java/lang/String" 15 "java/lang/String" (q.2.1 1).2.1 (q.2.1 1).2.2.1 ∈ lw_tbl := ⟨_, rfl, rfl, tw_2 (List.mem_of_getElem? (i := 190) rfl)⟩
theorem cs_String_54 : xCt "java/lang/String" 54 ⟨"java/util/Arrays", "copyOfRange", "([BII)[B"⟩ 3 := ⟨⟨by decide +kernel, by decide +kernel⟩, xpar_of (by decide +kernel), tw_2 (List.mem_of_getElem? (i := 136) rfl), tw_1 (List.mem_of_getElem? (i := 22) rfl), Or.inl (tw_2 (List.mem_of_getElem? (i := 135) rfl))⟩
theorem y_Arrays_copyOfRange : xY ⟨"java/util/Arrays", "copyOfRange", "([BII)[B"⟩ m_Arrays_copyOfRange := ⟨rfl, rfl, by decide +kernel, Or.inl ⟨rfl, tw_2 (List.mem_of_getElem? (i := 137) rfl)⟩⟩
theorem fp_18_0 : xFp 18 0 true := ⟨_, rfl, by decide, tw_2 (List.mem_of_getElem? (i := 191) rfl), by rfl, rfl⟩
theorem fo_String_9 : ∃ q : vw_C, xCl[18]? = some q ∧ (q.2.1 0).1 = "java/lang/String" ∧ Cond.fieldLink "java/lang/String" 9 "java/lang/String" (q.2.1 0).2.1 (q.2.1 0).2.2.1 ∈ lw_tbl := ⟨_, rfl, rfl, tw_2 (List.mem_of_getElem? (i := 189) rfl)⟩
theorem l_String_1048 : xFl "java/lang/String" 1048 16 2 := ⟨_, rfl, by decide, _, Or.inl rfl, Or.inl (tw_1 (List.mem_of_getElem? (i := 124) rfl))⟩
theorem ci_String_489 : xCi "java/lang/String" 489 ⟨"java/lang/String", "<init>", "(Ljava/lang/AbstractStringBuilder;Ljava/lang/Void;)V"⟩ 2 := ⟨rfl, ⟨by decide +kernel, by decide +kernel⟩, xpar_of (by decide +kernel), tw_2 (List.mem_of_getElem? (i := 118) rfl), Or.inl (tw_2 (List.mem_of_getElem? (i := 117) rfl))⟩
theorem y_String_init0 : xY ⟨"java/lang/String", "<init>", "(Ljava/lang/AbstractStringBuilder;Ljava/lang/Void;)V"⟩ m_String_init0 := ⟨rfl, rfl, by decide +kernel, Or.inl ⟨rfl, tw_2 (List.mem_of_getElem? (i := 119) rfl)⟩⟩
theorem nw_StringBuilder_18 : xNw "java/lang/StringBuilder" 18 18 4 := ⟨_, rfl, tw_2 (List.mem_of_getElem? (i := 112) rfl), tw_2 (List.mem_of_getElem? (i := 113) rfl), tw_1 (List.mem_of_getElem? (i := 11) rfl)⟩
theorem ly_18 : xLy 18 := ⟨_, rfl, fun k h => match k, h with | 0, _ => ⟨tw_2 (List.mem_of_getElem? (i := 191) rfl), rfl⟩ | 1, _ => ⟨tw_2 (List.mem_of_getElem? (i := 193) rfl), rfl⟩ | k + 2, h => absurd h (by show ¬ k + 2 < 2; omega)⟩
theorem ci_StringBuilder_137 : xCi "java/lang/StringBuilder" 137 ⟨"java/lang/String", "<init>", "(Ljava/lang/StringBuilder;)V"⟩ 1 := ⟨rfl, ⟨by decide +kernel, by decide +kernel⟩, xpar_of (by decide +kernel), tw_2 (List.mem_of_getElem? (i := 115) rfl), Or.inl (tw_2 (List.mem_of_getElem? (i := 114) rfl))⟩
theorem y_String_init1 : xY ⟨"java/lang/String", "<init>", "(Ljava/lang/StringBuilder;)V"⟩ m_String_init1 := ⟨rfl, rfl, by decide +kernel, Or.inl ⟨rfl, tw_2 (List.mem_of_getElem? (i := 116) rfl)⟩⟩
theorem cv_P_459 : xCv "PageScribe" 459 3 ⟨"PageScribe$Name", "is", "(Ljava/lang/StringBuilder;)Z"⟩ 1 := ⟨⟨by decide +kernel, by decide +kernel⟩, xpar_of (by decide +kernel), tw_5 (List.mem_of_getElem? (i := 101) rfl), ⟨_, rfl, tw_5 (List.mem_of_getElem? (i := 102) rfl)⟩, Or.inl (tw_5 (List.mem_of_getElem? (i := 100) rfl))⟩
theorem y_Name_is : xY ⟨"PageScribe$Name", "is", "(Ljava/lang/StringBuilder;)Z"⟩ m_Name_is := ⟨rfl, rfl, by decide +kernel, Or.inl ⟨rfl, tw_5 (List.mem_of_getElem? (i := 103) rfl)⟩⟩
theorem cv_P_462 : xCv "PageScribe" 462 3 ⟨"PageScribe$Name", "next", "()LPageScribe$Name;"⟩ 0 := ⟨⟨by decide +kernel, by decide +kernel⟩, xpar_of (by decide +kernel), tw_5 (List.mem_of_getElem? (i := 109) rfl), ⟨_, rfl, tw_5 (List.mem_of_getElem? (i := 110) rfl)⟩, Or.inl (tw_5 (List.mem_of_getElem? (i := 108) rfl))⟩
theorem y_Name_next : xY ⟨"PageScribe$Name", "next", "()LPageScribe$Name;"⟩ m_Name_next := ⟨rfl, rfl, by decide +kernel, Or.inl ⟨rfl, tw_5 (List.mem_of_getElem? (i := 111) rfl)⟩⟩
theorem l_P_464 : xFl "PageScribe" 464 0 4 := ⟨_, rfl, by decide, _, Or.inl rfl, Or.inl (tw_3 (List.mem_of_getElem? (i := 126) rfl))⟩
theorem fp_0_4 : xFp 0 4 false := ⟨_, rfl, by decide, tw_3 (List.mem_of_getElem? (i := 192) rfl), by rfl, rfl⟩
theorem cv_P_467 : xCv "PageScribe" 467 16 ⟨"java/lang/StringBuilder", "toString", "()Ljava/lang/String;"⟩ 0 := ⟨⟨by decide +kernel, by decide +kernel⟩, xpar_of (by decide +kernel), tw_2 (List.mem_of_getElem? (i := 109) rfl), ⟨_, rfl, tw_2 (List.mem_of_getElem? (i := 110) rfl)⟩, Or.inl (tw_5 (List.mem_of_getElem? (i := 112) rfl))⟩
theorem y_StringBuilder_toString : xY ⟨"java/lang/StringBuilder", "toString", "()Ljava/lang/String;"⟩ m_StringBuilder_toString := ⟨rfl, rfl, by decide +kernel, Or.inl ⟨rfl, tw_2 (List.mem_of_getElem? (i := 111) rfl)⟩⟩
theorem cv_P_512 : xCv "PageScribe" 512 3 ⟨"PageScribe$Name", "text", "()Ljava/lang/String;"⟩ 0 := ⟨⟨by decide +kernel, by decide +kernel⟩, xpar_of (by decide +kernel), tw_4 (List.mem_of_getElem? (i := 236) rfl), ⟨_, rfl, tw_4 (List.mem_of_getElem? (i := 237) rfl)⟩, Or.inl (tw_4 (List.mem_of_getElem? (i := 235) rfl))⟩
theorem y_Name_text : xY ⟨"PageScribe$Name", "text", "()Ljava/lang/String;"⟩ m_Name_text := ⟨rfl, rfl, by decide +kernel, Or.inl ⟨rfl, tw_4 (List.mem_of_getElem? (i := 238) rfl)⟩⟩
theorem sl_P_506 : xSl "PageScribe" 506 (vA 73) := ⟨_, List.mem_of_getElem? (i := 73) rfl, rfl, Or.inl (tw_7 (List.mem_of_getElem? (i := 184) rfl))⟩
theorem nw_P_509 : xNw "PageScribe" 509 24 6 := ⟨_, rfl, tw_7 (List.mem_of_getElem? (i := 185) rfl), tw_7 (List.mem_of_getElem? (i := 186) rfl), tw_1 (List.mem_of_getElem? (i := 45) rfl)⟩
theorem ex_P_511 : xEx "PageScribe" 511 24 ["java/lang/RuntimeException", "java/lang/Exception"] := xex_of _ rfl rfl (by decide +kernel) (by decide +kernel) (by decide +kernel)
theorem sl_P_451 : xSl "PageScribe" 451 (vA 77) := ⟨_, List.mem_of_getElem? (i := 77) rfl, rfl, Or.inl (tw_5 (List.mem_of_getElem? (i := 74) rfl))⟩
theorem cv_P_454 : xCv "PageScribe" 454 0 ⟨"PageScribe", "digits", "(I)I"⟩ 1 := ⟨⟨by decide +kernel, by decide +kernel⟩, xpar_of (by decide +kernel), tw_5 (List.mem_of_getElem? (i := 85) rfl), ⟨_, rfl, List.mem_append_left _ (List.mem_of_getElem? (i := 14) (by decide +kernel))⟩, Or.inl (tw_5 (List.mem_of_getElem? (i := 83) rfl))⟩
theorem y_P_digits : xY ⟨"PageScribe", "digits", "(I)I"⟩ m_P_digits := ⟨rfl, rfl, by decide +kernel, Or.inl ⟨rfl, tw_5 (List.mem_of_getElem? (i := 86) rfl)⟩⟩
theorem c_P_457 : Jvm.Cond.constantDouble "PageScribe" 457 4621819117588971520 ∈ lw_tbl := tw_5 (List.mem_of_getElem? (i := 91) rfl)
theorem cv_P_402 : xCv "PageScribe" 402 0 ⟨"PageScribe", "blanks", "()V"⟩ 0 := ⟨⟨by decide +kernel, by decide +kernel⟩, xpar_of (by decide +kernel), tw_5 (List.mem_of_getElem? (i := 37) rfl), ⟨_, rfl, List.mem_append_left _ (List.mem_of_getElem? (i := 8) (by decide +kernel))⟩, Or.inl (tw_5 (List.mem_of_getElem? (i := 35) rfl))⟩
theorem y_P_blanks : xY ⟨"PageScribe", "blanks", "()V"⟩ m_P_blanks := ⟨rfl, rfl, by decide +kernel, Or.inl ⟨rfl, tw_5 (List.mem_of_getElem? (i := 38) rfl)⟩⟩
theorem cv_P_408 : xCv "PageScribe" 408 0 ⟨"PageScribe", "token", "(I)LPageScribe$Slot;"⟩ 1 := ⟨⟨by decide +kernel, by decide +kernel⟩, xpar_of (by decide +kernel), tw_5 (List.mem_of_getElem? (i := 55) rfl), ⟨_, rfl, List.mem_append_left _ (List.mem_of_getElem? (i := 10) (by decide +kernel))⟩, Or.inl (tw_5 (List.mem_of_getElem? (i := 53) rfl))⟩
theorem y_P_token : xY ⟨"PageScribe", "token", "(I)LPageScribe$Slot;"⟩ m_P_token := ⟨rfl, rfl, by decide +kernel, Or.inl ⟨rfl, tw_5 (List.mem_of_getElem? (i := 56) rfl)⟩⟩
theorem cv_P_447 : xCv "PageScribe" 447 0 ⟨"PageScribe", "take", "(I)I"⟩ 1 := ⟨⟨by decide +kernel, by decide +kernel⟩, xpar_of (by decide +kernel), tw_5 (List.mem_of_getElem? (i := 62) rfl), ⟨_, rfl, List.mem_append_left _ (List.mem_of_getElem? (i := 11) (by decide +kernel))⟩, Or.inl (tw_5 (List.mem_of_getElem? (i := 60) rfl))⟩
theorem cv_P_415 : xCv "PageScribe" 415 0 ⟨"PageScribe", "drafts", "()LPageScribe$Slot;"⟩ 0 := ⟨⟨by decide +kernel, by decide +kernel⟩, xpar_of (by decide +kernel), tw_5 (List.mem_of_getElem? (i := 72) rfl), ⟨_, rfl, List.mem_append_left _ (List.mem_of_getElem? (i := 12) (by decide +kernel))⟩, Or.inl (tw_5 (List.mem_of_getElem? (i := 70) rfl))⟩
theorem y_P_drafts : xY ⟨"PageScribe", "drafts", "()LPageScribe$Slot;"⟩ m_P_drafts := ⟨rfl, rfl, by decide +kernel, Or.inl ⟨rfl, tw_5 (List.mem_of_getElem? (i := 73) rfl)⟩⟩
theorem cu_StringBuilder_333 : xCsu "java/lang/StringBuilder" 333 ⟨"java/lang/AbstractStringBuilder", "setLength", "(I)V"⟩ 1 := ⟨tw_4 (List.mem_of_getElem? (i := 47) rfl), tw_10 (List.mem_of_getElem? (i := 72) rfl), tw_1 (List.mem_of_getElem? (i := 134) rfl), tw_4 (List.mem_of_getElem? (i := 48) rfl), by decide +kernel, xpar_of (by decide +kernel)⟩
theorem y_AbstractStringBuilder_setLength : xY ⟨"java/lang/AbstractStringBuilder", "setLength", "(I)V"⟩ m_AbstractStringBuilder_setLength := ⟨rfl, rfl, by decide +kernel, Or.inl ⟨rfl, tw_4 (List.mem_of_getElem? (i := 49) rfl)⟩⟩
theorem cu_StringBuilder_50 : xCsu "java/lang/StringBuilder" 50 ⟨"java/lang/AbstractStringBuilder", "append", "(C)Ljava/lang/AbstractStringBuilder;"⟩ 1 := ⟨tw_4 (List.mem_of_getElem? (i := 34) rfl), tw_10 (List.mem_of_getElem? (i := 71) rfl), tw_1 (List.mem_of_getElem? (i := 134) rfl), tw_4 (List.mem_of_getElem? (i := 35) rfl), by decide +kernel, xpar_of (by decide +kernel)⟩
theorem y_AbstractStringBuilder_append0 : xY ⟨"java/lang/AbstractStringBuilder", "append", "(C)Ljava/lang/AbstractStringBuilder;"⟩ m_AbstractStringBuilder_append0 := ⟨rfl, rfl, by decide +kernel, Or.inl ⟨rfl, tw_4 (List.mem_of_getElem? (i := 36) rfl)⟩⟩
theorem cs_P_411 : xCt "PageScribe" 411 ⟨"PageScribe", "procedure", "(LPageScribe;I)LPageScribe$Slot;"⟩ 2 := ⟨⟨by decide +kernel, by decide +kernel⟩, xpar_of (by decide +kernel), tw_5 (List.mem_of_getElem? (i := 58) rfl), tw_1 (List.mem_of_getElem? (i := 1) rfl), Or.inl (tw_5 (List.mem_of_getElem? (i := 57) rfl))⟩
theorem y_P_procedure : xY ⟨"PageScribe", "procedure", "(LPageScribe;I)LPageScribe$Slot;"⟩ m_P_procedure := ⟨rfl, rfl, by decide +kernel, Or.inl ⟨rfl, tw_5 (List.mem_of_getElem? (i := 59) rfl)⟩⟩
theorem cv_P_423 : xCv "PageScribe" 423 0 ⟨"PageScribe", "numeral", "(LPageScribe$Slot;)V"⟩ 1 := ⟨⟨by decide +kernel, by decide +kernel⟩, xpar_of (by decide +kernel), tw_5 (List.mem_of_getElem? (i := 81) rfl), ⟨_, rfl, List.mem_append_left _ (List.mem_of_getElem? (i := 13) (by decide +kernel))⟩, Or.inl (tw_5 (List.mem_of_getElem? (i := 79) rfl))⟩
theorem y_P_numeral : xY ⟨"PageScribe", "numeral", "(LPageScribe$Slot;)V"⟩ m_P_numeral := ⟨rfl, rfl, by decide +kernel, Or.inl ⟨rfl, tw_5 (List.mem_of_getElem? (i := 82) rfl)⟩⟩
theorem cv_P_426 : xCv "PageScribe" 426 16 ⟨"java/lang/StringBuilder", "setLength", "(I)V"⟩ 1 := ⟨⟨by decide +kernel, by decide +kernel⟩, xpar_of (by decide +kernel), tw_4 (List.mem_of_getElem? (i := 44) rfl), ⟨_, rfl, tw_4 (List.mem_of_getElem? (i := 45) rfl)⟩, Or.inl (tw_4 (List.mem_of_getElem? (i := 43) rfl))⟩
theorem y_StringBuilder_setLength : xY ⟨"java/lang/StringBuilder", "setLength", "(I)V"⟩ m_StringBuilder_setLength := ⟨rfl, rfl, by decide +kernel, Or.inl ⟨rfl, tw_4 (List.mem_of_getElem? (i := 46) rfl)⟩⟩
theorem cv_P_432 : xCv "PageScribe" 432 16 ⟨"java/lang/StringBuilder", "append", "(C)Ljava/lang/StringBuilder;"⟩ 1 := ⟨⟨by decide +kernel, by decide +kernel⟩, xpar_of (by decide +kernel), tw_4 (List.mem_of_getElem? (i := 31) rfl), ⟨_, rfl, tw_4 (List.mem_of_getElem? (i := 32) rfl)⟩, Or.inl (tw_4 (List.mem_of_getElem? (i := 30) rfl))⟩
theorem y_StringBuilder_append0 : xY ⟨"java/lang/StringBuilder", "append", "(C)Ljava/lang/StringBuilder;"⟩ m_StringBuilder_append0 := ⟨rfl, rfl, by decide +kernel, Or.inl ⟨rfl, tw_4 (List.mem_of_getElem? (i := 33) rfl)⟩⟩
theorem cv_P_436 : xCv "PageScribe" 436 0 ⟨"PageScribe", "isLetter", "()Z"⟩ 0 := ⟨⟨by decide +kernel, by decide +kernel⟩, xpar_of (by decide +kernel), tw_5 (List.mem_of_getElem? (i := 94) rfl), ⟨_, rfl, List.mem_append_left _ (List.mem_of_getElem? (i := 16) (by decide +kernel))⟩, Or.inl (tw_5 (List.mem_of_getElem? (i := 92) rfl))⟩
theorem y_P_isLetter : xY ⟨"PageScribe", "isLetter", "()Z"⟩ m_P_isLetter := ⟨rfl, rfl, by decide +kernel, Or.inl ⟨rfl, tw_5 (List.mem_of_getElem? (i := 95) rfl)⟩⟩
theorem cv_P_439 : xCv "PageScribe" 439 0 ⟨"PageScribe", "known", "()LPageScribe$Name;"⟩ 0 := ⟨⟨by decide +kernel, by decide +kernel⟩, xpar_of (by decide +kernel), tw_5 (List.mem_of_getElem? (i := 98) rfl), ⟨_, rfl, List.mem_append_left _ (List.mem_of_getElem? (i := 17) (by decide +kernel))⟩, Or.inl (tw_5 (List.mem_of_getElem? (i := 96) rfl))⟩
theorem y_P_known : xY ⟨"PageScribe", "known", "()LPageScribe$Name;"⟩ m_P_known := ⟨rfl, rfl, by decide +kernel, Or.inl ⟨rfl, tw_5 (List.mem_of_getElem? (i := 99) rfl)⟩⟩
theorem cv_P_443 : xCv "PageScribe" 443 2 ⟨"PageScribe$Slot", "named", "(LPageScribe$Name;Z)V"⟩ 2 := ⟨⟨by decide +kernel, by decide +kernel⟩, xpar_of (by decide +kernel), tw_5 (List.mem_of_getElem? (i := 114) rfl), ⟨_, rfl, tw_5 (List.mem_of_getElem? (i := 115) rfl)⟩, Or.inl (tw_5 (List.mem_of_getElem? (i := 113) rfl))⟩
theorem y_Slot_named : xY ⟨"PageScribe$Slot", "named", "(LPageScribe$Name;Z)V"⟩ m_Slot_named := ⟨rfl, rfl, by decide +kernel, Or.inl ⟨rfl, tw_5 (List.mem_of_getElem? (i := 116) rfl)⟩⟩
theorem cv_P_514 : xCv "PageScribe" 514 2 ⟨"PageScribe$Slot", "isNumber", "()Z"⟩ 0 := ⟨⟨by decide +kernel, by decide +kernel⟩, xpar_of (by decide +kernel), tw_6 (List.mem_of_getElem? (i := 228) rfl), ⟨_, rfl, tw_6 (List.mem_of_getElem? (i := 229) rfl)⟩, Or.inl (tw_7 (List.mem_of_getElem? (i := 207) rfl))⟩
theorem cv_P_517 : xCv "PageScribe" 517 2 ⟨"PageScribe$Slot", "value", "()D"⟩ 0 := ⟨⟨by decide +kernel, by decide +kernel⟩, xpar_of (by decide +kernel), tw_6 (List.mem_of_getElem? (i := 235) rfl), ⟨_, rfl, tw_6 (List.mem_of_getElem? (i := 236) rfl)⟩, Or.inl (tw_7 (List.mem_of_getElem? (i := 208) rfl))⟩
theorem nw_P_488 : xNw "PageScribe" 488 22 6 := ⟨_, rfl, tw_5 (List.mem_of_getElem? (i := 26) rfl), tw_1 (List.mem_of_getElem? (i := 155) rfl), tw_1 (List.mem_of_getElem? (i := 19) rfl)⟩
theorem ex_P_490 : xEx "PageScribe" 490 22 ["java/lang/RuntimeException", "java/lang/Exception"] := xex_of _ rfl rfl (by decide +kernel) (by decide +kernel) (by decide +kernel)
theorem fp_0_15 : xFp 0 15 false := ⟨_, rfl, by decide, tw_3 (List.mem_of_getElem? (i := 214) rfl), by rfl, rfl⟩
theorem cv_P_491 : xCv "PageScribe" 491 0 ⟨"PageScribe", "read", "()V"⟩ 0 := ⟨⟨by decide +kernel, by decide +kernel⟩, xpar_of (by decide +kernel), tw_5 (List.mem_of_getElem? (i := 33) rfl), ⟨_, rfl, List.mem_append_left _ (List.mem_of_getElem? (i := 7) (by decide +kernel))⟩, Or.inl (tw_5 (List.mem_of_getElem? (i := 31) rfl))⟩
theorem y_P_read : xY ⟨"PageScribe", "read", "()V"⟩ m_P_read := ⟨rfl, rfl, by decide +kernel, Or.inl ⟨rfl, tw_5 (List.mem_of_getElem? (i := 34) rfl)⟩⟩
theorem cv_W_15 : xCv "PageScribeLaw" 15 0 ⟨"PageScribe", "kind", "(I)I"⟩ 1 := ⟨⟨by decide +kernel, by decide +kernel⟩, xpar_of (by decide +kernel), tw_7 (List.mem_of_getElem? (i := 153) rfl), ⟨_, rfl, tw_7 (List.mem_of_getElem? (i := 154) rfl)⟩, Or.inl (tw_7 (List.mem_of_getElem? (i := 152) rfl))⟩
theorem y_P_kind : xY ⟨"PageScribe", "kind", "(I)I"⟩ m_P_kind := ⟨rfl, rfl, by decide +kernel, Or.inl ⟨rfl, tw_7 (List.mem_of_getElem? (i := 155) rfl)⟩⟩
theorem kl_W_18 : Cond.classLink "PageScribeLaw" 18 "java/lang/IndexOutOfBoundsException" ∈ lw_tbl := tw_7 (List.mem_of_getElem? (i := 149) rfl)
theorem cv_W_20 : xCv "PageScribeLaw" 20 0 ⟨"PageScribe", "number", "(I)I"⟩ 1 := ⟨⟨by decide +kernel, by decide +kernel⟩, xpar_of (by decide +kernel), tw_7 (List.mem_of_getElem? (i := 181) rfl), ⟨_, rfl, tw_7 (List.mem_of_getElem? (i := 182) rfl)⟩, Or.inl (tw_7 (List.mem_of_getElem? (i := 180) rfl))⟩
theorem y_P_number : xY ⟨"PageScribe", "number", "(I)I"⟩ m_P_number := ⟨rfl, rfl, by decide +kernel, Or.inl ⟨rfl, tw_7 (List.mem_of_getElem? (i := 183) rfl)⟩⟩
theorem kl_W_23 : Cond.classLink "PageScribeLaw" 23 "java/lang/IllegalStateException" ∈ lw_tbl := tw_7 (List.mem_of_getElem? (i := 179) rfl)
theorem cv_W_25 : xCv "PageScribeLaw" 25 0 ⟨"PageScribe", "real", "(I)D"⟩ 1 := ⟨⟨by decide +kernel, by decide +kernel⟩, xpar_of (by decide +kernel), tw_7 (List.mem_of_getElem? (i := 204) rfl), ⟨_, rfl, tw_7 (List.mem_of_getElem? (i := 205) rfl)⟩, Or.inl (tw_7 (List.mem_of_getElem? (i := 203) rfl))⟩
theorem y_P_real : xY ⟨"PageScribe", "real", "(I)D"⟩ m_P_real := ⟨rfl, rfl, by decide +kernel, Or.inl ⟨rfl, tw_7 (List.mem_of_getElem? (i := 206) rfl)⟩⟩
theorem cv_W_7 : xCv "PageScribeLaw" 7 0 ⟨"PageScribe", "run", "(I)I"⟩ 1 := ⟨⟨by decide +kernel, by decide +kernel⟩, xpar_of (by decide +kernel), tw_5 (List.mem_of_getElem? (i := 23) rfl), ⟨_, rfl, tw_5 (List.mem_of_getElem? (i := 24) rfl)⟩, Or.inl (tw_5 (List.mem_of_getElem? (i := 22) rfl))⟩
theorem y_P_run : xY ⟨"PageScribe", "run", "(I)I"⟩ m_P_run := ⟨rfl, rfl, by decide +kernel, Or.inr (tw_5 (List.mem_of_getElem? (i := 25) rfl))⟩
theorem kl_W_13 : Cond.classLink "PageScribeLaw" 13 "java/lang/IllegalArgumentException" ∈ lw_tbl := tw_5 (List.mem_of_getElem? (i := 21) rfl)
theorem l_Enum_19 : xFl "java/lang/Enum" 7 19 0 := ⟨_, rfl, by decide, _, Or.inl rfl, Or.inl (tw_10 (List.mem_of_getElem? (i := 108) rfl))⟩
theorem l_Enum_20 : xFl "java/lang/Enum" 7 20 0 := ⟨_, rfl, by decide, _, Or.inl rfl, Or.inl (tw_10 (List.mem_of_getElem? (i := 108) rfl))⟩
theorem sf_String_1053 : Cond.fieldLink "java/lang/String" 1053 "jdk/internal/util/Preconditions" "SIOOBE_FORMATTER" "Ljava/util/function/BiFunction;" ∈ lw_tbl := tw_2 (List.mem_of_getElem? (i := 26) rfl)
theorem cs_String_1059 : xCt "java/lang/String" 1059 ⟨"jdk/internal/util/Preconditions", "checkIndex", "(IILjava/util/function/BiFunction;)I"⟩ 3 := ⟨⟨by decide +kernel, by decide +kernel⟩, xpar_of (by decide +kernel), tw_2 (List.mem_of_getElem? (i := 236) rfl), tw_1 (List.mem_of_getElem? (i := 24) rfl), Or.inl (tw_2 (List.mem_of_getElem? (i := 235) rfl))⟩
