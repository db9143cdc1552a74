theorem xpar_of {y : MethodName} {n : Nat} (h : (parseMethodDescriptor y.desc).map (fun d => d.parameters.length) = some n) : xpar y n := h
def m_M_base : xM := ("PageScribeModel", prog_21_method_59_code, 1, (some .int), [], "base")
def m_M_below : xM := ("PageScribeModel", prog_21_method_48_code, 4, (some .double), [], "below")
def m_M_count : xM := ("PageScribeModel", prog_21_method_7_code, 2, (some .int), [], "count")
def m_M_cover : xM := ("PageScribeModel", prog_21_method_73_code, 13, none, [], "cover")
def m_M_depth : xM := ("PageScribeModel", prog_21_method_78_code, 1, (some .int), [], "depth")
def m_M_fault : xM := ("PageScribeModel", prog_21_method_76_code, 1, (some .int), [], "fault")
def m_M_first : xM := ("PageScribeModel", prog_21_method_6_code, 2, (some .int), [], "first")
def m_M_frame : xM := ("PageScribeModel", prog_21_method_28_code, 4, none, [], "frame")
def m_M_isDigit : xM := ("PageScribeModel", prog_21_method_16_code, 1, (some .boolean), [], "isDigit")
def m_M_isLetter : xM := ("PageScribeModel", prog_21_method_17_code, 1, (some .boolean), [], "isLetter")
def m_M_isNumber : xM := ("PageScribeModel", prog_21_method_9_code, 2, (some .boolean), [], "isNumber")
def m_M_isProcedure : xM := ("PageScribeModel", prog_21_method_8_code, 2, (some .boolean), [], "isProcedure")
def m_M_kind : xM := ("PageScribeModel", prog_21_method_79_code, 2, (some .int), [], "kind")
def m_M_kindOf : xM := ("PageScribeModel", prog_21_method_5_code, 2, (some .int), [], "kindOf")
def m_M_leave : xM := ("PageScribeModel", prog_21_method_29_code, 1, none, [], "leave")
def m_M_letters : xM := ("PageScribeModel", prog_21_method_80_code, 3, (some .int), [], "letters")
def m_M_look : xM := ("PageScribeModel", prog_21_method_18_code, 2, (some .char), [], "look")
def m_M_move : xM := ("PageScribeModel", prog_21_method_3_code, 3, none, [], "move")
def m_M_numberAt : xM := ("PageScribeModel", prog_21_method_10_code, 2, (some .double), [], "numberAt")
def m_M_operatorOf : xM := ("PageScribeModel", prog_21_method_23_code, 4, (some .int), [], "operatorOf")
def m_M_page : xM := ("PageScribeModel", prog_21_method_86_code, 3, (some .int), [], "page")
def m_M_pattern : xM := ("PageScribeModel", prog_21_method_39_code, 2, (some .int), [], "pattern")
def m_M_pixel : xM := ("PageScribeModel", prog_21_method_85_code, 3, (some .int), [], "pixel")
def m_M_point : xM := ("PageScribeModel", prog_21_method_72_code, 6, (some .int), [], "point")
def m_M_set : xM := ("PageScribeModel", prog_21_method_4_code, 5, none, [], "set")
def m_M_step : xM := ("PageScribeModel", prog_21_method_32_code, 1, (some .int), [], "step")
def m_M_steps : xM := ("PageScribeModel", prog_21_method_75_code, 1, (some .int), [], "steps")
def m_M_thrown : xM := ("PageScribeModel", prog_21_method_2_code, 1, (some .int), [], "thrown")
def m_M_topMark : xM := ("PageScribeModel", prog_21_method_43_code, 2, (some .int), [], "topMark")
def m_M_used : xM := ("PageScribeModel", prog_21_method_84_code, 4, (some .int), [], "used")
def m_M_whole : xM := ("PageScribeModel", prog_21_method_20_code, 6, (some .long), [], "whole")
def m_M_write : xM := ("PageScribeModel", prog_21_method_74_code, 6, (some .boolean), [], "write")
def m_M_again : xM := ("PageScribeModel", prog_21_method_31_code, 1, (some .int), [], "again")
def m_M_alike : xM := ("PageScribeModel", prog_21_method_50_code, 3, (some .boolean), [], "alike")
def m_M_copyAll : xM := ("PageScribeModel", prog_21_method_67_code, 4, none, [], "copyAll")
def m_M_digits : xM := ("PageScribeModel", prog_21_method_19_code, 3, (some .int), [], "digits")
def m_M_entry : xM := ("PageScribeModel", prog_21_method_60_code, 5, (some .int), [], "entry")
def m_M_exit : xM := ("PageScribeModel", prog_21_method_66_code, 2, (some .int), [], "exit")
def m_M_feed : xM := ("PageScribeModel", prog_21_method_77_code, 3, (some .boolean), [], "feed")
def m_M_give : xM := ("PageScribeModel", prog_21_method_14_code, 5, (some .int), [], "give")
def m_M_giveReal : xM := ("PageScribeModel", prog_21_method_13_code, 4, (some .int), [], "giveReal")
def m_M_isNewer : xM := ("PageScribeModel", prog_21_method_69_code, 5, (some .boolean), [], "isNewer")
def m_M_letter : xM := ("PageScribeModel", prog_21_method_83_code, 6, (some .int), [], "letter")
def m_M_load : xM := ("PageScribeModel", prog_21_method_58_code, 6, (some .int), [], "load")
def m_M_newArray : xM := ("PageScribeModel", prog_21_method_25_code, 5, (some .int), [], "newArray")
def m_M_number : xM := ("PageScribeModel", prog_21_method_81_code, 3, (some .int), [], "number")
def m_M_paint : xM := ("PageScribeModel", prog_21_method_71_code, 8, (some .int), [], "paint")
def m_M_push : xM := ("PageScribeModel", prog_21_method_11_code, 4, (some .int), [], "push")
def m_M_pushValue : xM := ("PageScribeModel", prog_21_method_12_code, 2, (some .int), [], "pushValue")
def m_M_putCell : xM := ("PageScribeModel", prog_21_method_56_code, 4, (some .int), [], "putCell")
def m_M_readWord : xM := ("PageScribeModel", prog_21_method_22_code, 6, (some .int), [], "readWord")
def m_M_real : xM := ("PageScribeModel", prog_21_method_82_code, 2, (some .double), [], "real")
def m_M_roll : xM := ("PageScribeModel", prog_21_method_45_code, 7, (some .int), [], "roll")
def m_M_runArray : xM := ("PageScribeModel", prog_21_method_30_code, 3, (some .int), [], "runArray")
def m_M_suits : xM := ("PageScribeModel", prog_21_method_40_code, 3, (some .boolean), [], "suits")
def m_M_suitsOther : xM := ("PageScribeModel", prog_21_method_41_code, 5, (some .boolean), [], "suitsOther")
def m_M_begins : xM := ("PageScribeModel", prog_21_method_64_code, 8, (some .int), [], "begins")
def m_M_bits : xM := ("PageScribeModel", prog_21_method_52_code, 7, (some .int), [], "bits")
def m_M_caught : xM := ("PageScribeModel", prog_21_method_36_code, 3, (some .int), [], "caught")
def m_M_close : xM := ("PageScribeModel", prog_21_method_26_code, 3, (some .int), [], "close")
def m_M_found : xM := ("PageScribeModel", prog_21_method_33_code, 5, (some .int), [], "found")
def m_M_get : xM := ("PageScribeModel", prog_21_method_55_code, 5, (some .int), [], "get")
def m_M_giveExact : xM := ("PageScribeModel", prog_21_method_15_code, 4, (some .int), [], "giveExact")
def m_M_newDict : xM := ("PageScribeModel", prog_21_method_63_code, 4, (some .int), [], "newDict")
def m_M_part : xM := ("PageScribeModel", prog_21_method_57_code, 7, (some .int), [], "part")
def m_M_putEntry : xM := ("PageScribeModel", prog_21_method_61_code, 6, (some .int), [], "putEntry")
def m_M_readNumber : xM := ("PageScribeModel", prog_21_method_21_code, 11, (some .int), [], "readNumber")
def m_M_restore : xM := ("PageScribeModel", prog_21_method_70_code, 4, (some .int), [], "restore")
def m_M_save : xM := ("PageScribeModel", prog_21_method_68_code, 1, (some .int), [], "save")
def m_M_toMark : xM := ("PageScribeModel", prog_21_method_46_code, 4, (some .int), [], "toMark")
def m_M_zeros : xM := ("PageScribeModel", prog_21_method_54_code, 4, (some .int), [], "zeros")
def m_M_arrayOperator : xM := ("PageScribeModel", prog_21_method_53_code, 3, (some .int), [], "arrayOperator")
def m_M_control : xM := ("PageScribeModel", prog_21_method_65_code, 2, (some .int), [], "control")
def m_M_dictOperator : xM := ("PageScribeModel", prog_21_method_62_code, 4, (some .int), [], "dictOperator")
def m_M_readSimple : xM := ("PageScribeModel", prog_21_method_24_code, 2, (some .int), [], "readSimple")
def m_M_single : xM := ("PageScribeModel", prog_21_method_49_code, 7, (some .int), [], "single")
def m_M_stackOperator : xM := ("PageScribeModel", prog_21_method_44_code, 6, (some .int), [], "stackOperator")
def m_M_sum : xM := ("PageScribeModel", prog_21_method_47_code, 11, (some .int), [], "sum")
def m_M_truth : xM := ("PageScribeModel", prog_21_method_51_code, 8, (some .int), [], "truth")
def m_M_operate : xM := ("PageScribeModel", prog_21_method_42_code, 6, (some .int), [], "operate")
def m_M_token : xM := ("PageScribeModel", prog_21_method_27_code, 3, (some .int), [], "token")
def m_M_doValue : xM := ("PageScribeModel", prog_21_method_34_code, 5, (some .int), [], "doValue")
def m_M_advance : xM := ("PageScribeModel", prog_21_method_35_code, 6, (some .int), [], "advance")
def m_M_work : xM := ("PageScribeModel", prog_21_method_37_code, 3, (some .int), [], "work")
def m_M_run : xM := ("PageScribeModel", prog_21_method_38_code, 4, (some .int), [], "run")
theorem l_M_236 : xFl "PageScribeModel" 236 1 34 := ⟨_, rfl, by decide, _, Or.inl rfl, Or.inl (tw_8 (List.mem_of_getElem? (i := 79) rfl))⟩
theorem c_M_484 : Jvm.Cond.constantDouble "PageScribeModel" 484 4602678819172646912 ∈ lw_tbl := tw_9 (List.mem_of_getElem? (i := 119) rfl)
theorem l_M_547 : xFl "PageScribeModel" 547 1 41 := ⟨_, rfl, by decide, _, Or.inl rfl, Or.inl (tw_8 (List.mem_of_getElem? (i := 86) rfl))⟩
theorem l_M_84 : xFl "PageScribeModel" 84 1 40 := ⟨_, rfl, by decide, _, Or.inl rfl, Or.inl (tw_8 (List.mem_of_getElem? (i := 85) rfl))⟩
theorem l_M_78 : xFl "PageScribeModel" 78 1 38 := ⟨_, rfl, by decide, _, Or.inl rfl, Or.inl (tw_8 (List.mem_of_getElem? (i := 83) rfl))⟩
theorem l_M_81 : xFl "PageScribeModel" 81 1 39 := ⟨_, rfl, by decide, _, Or.inl rfl, Or.inl (tw_8 (List.mem_of_getElem? (i := 84) rfl))⟩
theorem l_M_71 : xFl "PageScribeModel" 71 1 36 := ⟨_, rfl, by decide, _, Or.inl rfl, Or.inl (tw_8 (List.mem_of_getElem? (i := 81) rfl))⟩
theorem c_M_562 : Jvm.Cond.constantFloat "PageScribeModel" 562 1097859072 ∈ lw_tbl := tw_9 (List.mem_of_getElem? (i := 236) rfl)
theorem l_M_74 : xFl "PageScribeModel" 74 1 37 := ⟨_, rfl, by decide, _, Or.inl rfl, Or.inl (tw_8 (List.mem_of_getElem? (i := 82) rfl))⟩
theorem c_M_563 : Jvm.Cond.constantFloat "PageScribeModel" 563 1056964608 ∈ lw_tbl := tw_9 (List.mem_of_getElem? (i := 237) rfl)
theorem l_M_242 : xFl "PageScribeModel" 242 1 0 := ⟨_, rfl, by decide, _, Or.inl rfl, Or.inl (tw_8 (List.mem_of_getElem? (i := 45) rfl))⟩
theorem l_M_247 : xFl "PageScribeModel" 247 1 4 := ⟨_, rfl, by decide, _, Or.inl rfl, Or.inl (tw_8 (List.mem_of_getElem? (i := 49) rfl))⟩
theorem l_M_402 : xFl "PageScribeModel" 402 1 33 := ⟨_, rfl, by decide, _, Or.inl rfl, Or.inl (tw_8 (List.mem_of_getElem? (i := 78) rfl))⟩
theorem c_M_245 : Jvm.Cond.constantLong "PageScribeModel" 245 1023 ∈ lw_tbl := tw_9 (List.mem_of_getElem? (i := 153) rfl)
theorem l_M_43 : xFl "PageScribeModel" 43 1 17 := ⟨_, rfl, by decide, _, Or.inl rfl, Or.inl (tw_8 (List.mem_of_getElem? (i := 62) rfl))⟩
theorem l_M_346 : xFl "PageScribeModel" 346 1 15 := ⟨_, rfl, by decide, _, Or.inl rfl, Or.inl (tw_8 (List.mem_of_getElem? (i := 60) rfl))⟩
theorem l_M_46 : xFl "PageScribeModel" 46 1 18 := ⟨_, rfl, by decide, _, Or.inl rfl, Or.inl (tw_8 (List.mem_of_getElem? (i := 63) rfl))⟩
theorem l_M_49 : xFl "PageScribeModel" 49 1 19 := ⟨_, rfl, by decide, _, Or.inl rfl, Or.inl (tw_8 (List.mem_of_getElem? (i := 64) rfl))⟩
theorem l_M_349 : xFl "PageScribeModel" 349 1 16 := ⟨_, rfl, by decide, _, Or.inl rfl, Or.inl (tw_8 (List.mem_of_getElem? (i := 61) rfl))⟩
theorem l_M_7 : xFl "PageScribeModel" 7 1 1 := ⟨_, rfl, by decide, _, Or.inl rfl, Or.inl (tw_8 (List.mem_of_getElem? (i := 46) rfl))⟩
theorem l_M_270 : xFl "PageScribeModel" 270 1 24 := ⟨_, rfl, by decide, _, Or.inl rfl, Or.inl (tw_8 (List.mem_of_getElem? (i := 69) rfl))⟩
theorem l_M_61 : xFl "PageScribeModel" 61 1 23 := ⟨_, rfl, by decide, _, Or.inl rfl, Or.inl (tw_8 (List.mem_of_getElem? (i := 68) rfl))⟩
theorem l_M_13 : xFl "PageScribeModel" 13 1 2 := ⟨_, rfl, by decide, _, Or.inl rfl, Or.inl (tw_8 (List.mem_of_getElem? (i := 47) rfl))⟩
theorem l_M_17 : xFl "PageScribeModel" 17 1 3 := ⟨_, rfl, by decide, _, Or.inl rfl, Or.inl (tw_8 (List.mem_of_getElem? (i := 48) rfl))⟩
theorem c_M_314 : Jvm.Cond.constantLong "PageScribeModel" 314 27 ∈ lw_tbl := tw_9 (List.mem_of_getElem? (i := 12) rfl)
theorem c_M_316 : Jvm.Cond.constantLong "PageScribeModel" 316 28 ∈ lw_tbl := tw_9 (List.mem_of_getElem? (i := 13) rfl)
theorem l_M_160 : xFl "PageScribeModel" 160 1 43 := ⟨_, rfl, by decide, _, Or.inl rfl, Or.inl (tw_8 (List.mem_of_getElem? (i := 88) rfl))⟩
theorem l_M_233 : xFl "PageScribeModel" 233 1 44 := ⟨_, rfl, by decide, _, Or.inl rfl, Or.inl (tw_8 (List.mem_of_getElem? (i := 89) rfl))⟩
theorem l_M_87 : xFl "PageScribeModel" 87 1 42 := ⟨_, rfl, by decide, _, Or.inl rfl, Or.inl (tw_8 (List.mem_of_getElem? (i := 87) rfl))⟩
theorem l_M_239 : xFl "PageScribeModel" 239 1 35 := ⟨_, rfl, by decide, _, Or.inl rfl, Or.inl (tw_8 (List.mem_of_getElem? (i := 80) rfl))⟩
theorem l_M_356 : xFl "PageScribeModel" 356 1 32 := ⟨_, rfl, by decide, _, Or.inl rfl, Or.inl (tw_8 (List.mem_of_getElem? (i := 77) rfl))⟩
theorem l_M_359 : xFl "PageScribeModel" 359 1 31 := ⟨_, rfl, by decide, _, Or.inl rfl, Or.inl (tw_8 (List.mem_of_getElem? (i := 76) rfl))⟩
theorem l_M_27 : xFl "PageScribeModel" 27 1 8 := ⟨_, rfl, by decide, _, Or.inl rfl, Or.inl (tw_8 (List.mem_of_getElem? (i := 53) rfl))⟩
theorem l_M_325 : xFl "PageScribeModel" 325 1 5 := ⟨_, rfl, by decide, _, Or.inl rfl, Or.inl (tw_8 (List.mem_of_getElem? (i := 50) rfl))⟩
theorem l_M_33 : xFl "PageScribeModel" 33 1 10 := ⟨_, rfl, by decide, _, Or.inl rfl, Or.inl (tw_8 (List.mem_of_getElem? (i := 55) rfl))⟩
theorem l_M_534 : xFl "PageScribeModel" 534 1 12 := ⟨_, rfl, by decide, _, Or.inl rfl, Or.inl (tw_8 (List.mem_of_getElem? (i := 57) rfl))⟩
theorem l_M_311 : xFl "PageScribeModel" 311 1 30 := ⟨_, rfl, by decide, _, Or.inl rfl, Or.inl (tw_8 (List.mem_of_getElem? (i := 75) rfl))⟩
theorem c_M_277 : Jvm.Cond.constantLong "PageScribeModel" 277 10 ∈ lw_tbl := tw_8 (List.mem_of_getElem? (i := 231) rfl)
theorem c_M_279 : Jvm.Cond.constantLong "PageScribeModel" 279 48 ∈ lw_tbl := tw_8 (List.mem_of_getElem? (i := 232) rfl)
theorem c_M_564 : Jvm.Cond.constantLong "PageScribeModel" 564 255 ∈ lw_tbl := tw_10 (List.mem_of_getElem? (i := 11) rfl)
theorem cv_M_352 : xCv "PageScribeModel" 352 1 ⟨"PageScribeModel", "frame", "(IJ)V"⟩ 2 := ⟨⟨by decide +kernel, by decide +kernel⟩, xpar_of (by decide +kernel), tw_9 (List.mem_of_getElem? (i := 188) rfl), ⟨_, rfl, List.mem_append_left _ (List.mem_of_getElem? (i := 97) (by decide +kernel))⟩, Or.inl (tw_9 (List.mem_of_getElem? (i := 186) rfl))⟩
theorem y_M_frame : xY ⟨"PageScribeModel", "frame", "(IJ)V"⟩ m_M_frame := ⟨rfl, rfl, by decide +kernel, Or.inl ⟨rfl, tw_9 (List.mem_of_getElem? (i := 189) rfl)⟩⟩
theorem cv_M_418 : xCv "PageScribeModel" 418 1 ⟨"PageScribeModel", "isNumber", "(I)Z"⟩ 1 := ⟨⟨by decide +kernel, by decide +kernel⟩, xpar_of (by decide +kernel), tw_9 (List.mem_of_getElem? (i := 55) rfl), ⟨_, rfl, List.mem_append_left _ (List.mem_of_getElem? (i := 68) (by decide +kernel))⟩, Or.inl (tw_9 (List.mem_of_getElem? (i := 53) rfl))⟩
theorem y_M_isNumber : xY ⟨"PageScribeModel", "isNumber", "(I)Z"⟩ m_M_isNumber := ⟨rfl, rfl, by decide +kernel, Or.inl ⟨rfl, tw_9 (List.mem_of_getElem? (i := 56) rfl)⟩⟩
theorem cv_M_473 : xCv "PageScribeModel" 473 1 ⟨"PageScribeModel", "numberAt", "(I)D"⟩ 1 := ⟨⟨by decide +kernel, by decide +kernel⟩, xpar_of (by decide +kernel), tw_9 (List.mem_of_getElem? (i := 96) rfl), ⟨_, rfl, List.mem_append_left _ (List.mem_of_getElem? (i := 78) (by decide +kernel))⟩, Or.inl (tw_9 (List.mem_of_getElem? (i := 94) rfl))⟩
theorem y_M_numberAt : xY ⟨"PageScribeModel", "numberAt", "(I)D"⟩ m_M_numberAt := ⟨rfl, rfl, by decide +kernel, Or.inl ⟨rfl, tw_9 (List.mem_of_getElem? (i := 97) rfl)⟩⟩
theorem cv_M_421 : xCv "PageScribeModel" 421 1 ⟨"PageScribeModel", "kindOf", "(I)I"⟩ 1 := ⟨⟨by decide +kernel, by decide +kernel⟩, xpar_of (by decide +kernel), tw_9 (List.mem_of_getElem? (i := 63) rfl), ⟨_, rfl, List.mem_append_left _ (List.mem_of_getElem? (i := 70) (by decide +kernel))⟩, Or.inl (tw_9 (List.mem_of_getElem? (i := 61) rfl))⟩
theorem y_M_kindOf : xY ⟨"PageScribeModel", "kindOf", "(I)I"⟩ m_M_kindOf := ⟨rfl, rfl, by decide +kernel, Or.inl ⟨rfl, tw_9 (List.mem_of_getElem? (i := 64) rfl)⟩⟩
theorem cs_M_391 : xCt "PageScribeModel" 391 ⟨"PageScribeModel", "count", "(J)I"⟩ 1 := ⟨⟨by decide +kernel, by decide +kernel⟩, xpar_of (by decide +kernel), tw_9 (List.mem_of_getElem? (i := 136) rfl), tw_1 (List.mem_of_getElem? (i := 31) rfl), Or.inl (tw_9 (List.mem_of_getElem? (i := 135) rfl))⟩
theorem y_M_count : xY ⟨"PageScribeModel", "count", "(J)I"⟩ m_M_count := ⟨rfl, rfl, by decide +kernel, Or.inl ⟨rfl, tw_9 (List.mem_of_getElem? (i := 137) rfl)⟩⟩
theorem cv_M_254 : xCv "PageScribeModel" 254 1 ⟨"PageScribeModel", "move", "(II)V"⟩ 2 := ⟨⟨by decide +kernel, by decide +kernel⟩, xpar_of (by decide +kernel), tw_8 (List.mem_of_getElem? (i := 205) rfl), ⟨_, rfl, List.mem_append_left _ (List.mem_of_getElem? (i := 50) (by decide +kernel))⟩, Or.inl (tw_8 (List.mem_of_getElem? (i := 203) rfl))⟩
theorem y_M_move : xY ⟨"PageScribeModel", "move", "(II)V"⟩ m_M_move := ⟨rfl, rfl, by decide +kernel, Or.inl ⟨rfl, tw_8 (List.mem_of_getElem? (i := 206) rfl)⟩⟩
theorem l_M_21 : xFl "PageScribeModel" 21 1 6 := ⟨_, rfl, by decide, _, Or.inl rfl, Or.inl (tw_8 (List.mem_of_getElem? (i := 51) rfl))⟩
theorem l_M_24 : xFl "PageScribeModel" 24 1 7 := ⟨_, rfl, by decide, _, Or.inl rfl, Or.inl (tw_8 (List.mem_of_getElem? (i := 52) rfl))⟩
theorem cs_M_273 : xCt "PageScribeModel" 273 ⟨"PageScribeModel", "isDigit", "(C)Z"⟩ 1 := ⟨⟨by decide +kernel, by decide +kernel⟩, xpar_of (by decide +kernel), tw_8 (List.mem_of_getElem? (i := 217) rfl), tw_1 (List.mem_of_getElem? (i := 31) rfl), Or.inl (tw_8 (List.mem_of_getElem? (i := 216) rfl))⟩
theorem y_M_isDigit : xY ⟨"PageScribeModel", "isDigit", "(C)Z"⟩ m_M_isDigit := ⟨rfl, rfl, by decide +kernel, Or.inl ⟨rfl, tw_8 (List.mem_of_getElem? (i := 218) rfl)⟩⟩
theorem cs_M_516 : xCt "PageScribeModel" 516 ⟨"PageScribeModel", "base", "(I)I"⟩ 1 := ⟨⟨by decide +kernel, by decide +kernel⟩, xpar_of (by decide +kernel), tw_9 (List.mem_of_getElem? (i := 39) rfl), tw_1 (List.mem_of_getElem? (i := 31) rfl), Or.inl (tw_9 (List.mem_of_getElem? (i := 38) rfl))⟩
theorem y_M_base : xY ⟨"PageScribeModel", "base", "(I)I"⟩ m_M_base := ⟨rfl, rfl, by decide +kernel, Or.inl ⟨rfl, tw_9 (List.mem_of_getElem? (i := 40) rfl)⟩⟩
theorem cv_M_385 : xCv "PageScribeModel" 385 1 ⟨"PageScribeModel", "leave", "()V"⟩ 0 := ⟨⟨by decide +kernel, by decide +kernel⟩, xpar_of (by decide +kernel), tw_9 (List.mem_of_getElem? (i := 204) rfl), ⟨_, rfl, List.mem_append_left _ (List.mem_of_getElem? (i := 101) (by decide +kernel))⟩, Or.inl (tw_9 (List.mem_of_getElem? (i := 202) rfl))⟩
theorem y_M_leave : xY ⟨"PageScribeModel", "leave", "()V"⟩ m_M_leave := ⟨rfl, rfl, by decide +kernel, Or.inl ⟨rfl, tw_9 (List.mem_of_getElem? (i := 205) rfl)⟩⟩
theorem c_M_260 : Jvm.Cond.constantDouble "PageScribeModel" 260 14009883241494872064 ∈ lw_tbl := tw_9 (List.mem_of_getElem? (i := 103) rfl)
theorem c_M_258 : Jvm.Cond.constantDouble "PageScribeModel" 258 4786511204640096256 ∈ lw_tbl := tw_9 (List.mem_of_getElem? (i := 102) rfl)
theorem cv_M_250 : xCv "PageScribeModel" 250 1 ⟨"PageScribeModel", "set", "(IIJ)V"⟩ 3 := ⟨⟨by decide +kernel, by decide +kernel⟩, xpar_of (by decide +kernel), tw_8 (List.mem_of_getElem? (i := 210) rfl), ⟨_, rfl, List.mem_append_left _ (List.mem_of_getElem? (i := 51) (by decide +kernel))⟩, Or.inl (tw_8 (List.mem_of_getElem? (i := 208) rfl))⟩
theorem y_M_set : xY ⟨"PageScribeModel", "set", "(IIJ)V"⟩ m_M_set := ⟨rfl, rfl, by decide +kernel, Or.inl ⟨rfl, tw_8 (List.mem_of_getElem? (i := 211) rfl)⟩⟩
theorem cs_M_394 : xCt "PageScribeModel" 394 ⟨"PageScribeModel", "first", "(J)I"⟩ 1 := ⟨⟨by decide +kernel, by decide +kernel⟩, xpar_of (by decide +kernel), tw_9 (List.mem_of_getElem? (i := 151) rfl), tw_1 (List.mem_of_getElem? (i := 31) rfl), Or.inl (tw_9 (List.mem_of_getElem? (i := 150) rfl))⟩
theorem y_M_first : xY ⟨"PageScribeModel", "first", "(J)I"⟩ m_M_first := ⟨rfl, rfl, by decide +kernel, Or.inl ⟨rfl, tw_9 (List.mem_of_getElem? (i := 152) rfl)⟩⟩
theorem l_M_40 : xFl "PageScribeModel" 40 1 14 := ⟨_, rfl, by decide, _, Or.inl rfl, Or.inl (tw_8 (List.mem_of_getElem? (i := 59) rfl))⟩
theorem l_M_37 : xFl "PageScribeModel" 37 1 13 := ⟨_, rfl, by decide, _, Or.inl rfl, Or.inl (tw_8 (List.mem_of_getElem? (i := 58) rfl))⟩
theorem cs_M_566 : xCt "PageScribeModel" 566 ⟨"PageScribeModel", "letters", "(J)I"⟩ 1 := ⟨⟨by decide +kernel, by decide +kernel⟩, xpar_of (by decide +kernel), tw_10 (List.mem_of_getElem? (i := 37) rfl), tw_1 (List.mem_of_getElem? (i := 31) rfl), Or.inl (tw_10 (List.mem_of_getElem? (i := 36) rfl))⟩
theorem y_M_letters : xY ⟨"PageScribeModel", "letters", "(J)I"⟩ m_M_letters := ⟨rfl, rfl, by decide +kernel, Or.inl ⟨rfl, tw_10 (List.mem_of_getElem? (i := 38) rfl)⟩⟩
theorem c_M_493 : Jvm.Cond.constantLong "PageScribeModel" 493 31 ∈ lw_tbl := tw_9 (List.mem_of_getElem? (i := 129) rfl)
theorem c_M_328 : Jvm.Cond.constantLong "PageScribeModel" 328 1024 ∈ lw_tbl := tw_8 (List.mem_of_getElem? (i := 207) rfl)
theorem c_M_550 : Jvm.Cond.constantDouble "PageScribeModel" 550 4696837146684686336 ∈ lw_tbl := tw_9 (List.mem_of_getElem? (i := 226) rfl)
theorem c_M_552 : Jvm.Cond.constantDouble "PageScribeModel" 552 13920209183539462144 ∈ lw_tbl := tw_9 (List.mem_of_getElem? (i := 227) rfl)
theorem cv_M_554 : xCv "PageScribeModel" 554 1 ⟨"PageScribeModel", "point", "(DDI)I"⟩ 3 := ⟨⟨by decide +kernel, by decide +kernel⟩, xpar_of (by decide +kernel), tw_9 (List.mem_of_getElem? (i := 230) rfl), ⟨_, rfl, List.mem_append_left _ (List.mem_of_getElem? (i := 107) (by decide +kernel))⟩, Or.inl (tw_9 (List.mem_of_getElem? (i := 228) rfl))⟩
theorem y_M_point : xY ⟨"PageScribeModel", "point", "(DDI)I"⟩ m_M_point := ⟨rfl, rfl, by decide +kernel, Or.inl ⟨rfl, tw_9 (List.mem_of_getElem? (i := 231) rfl)⟩⟩
theorem cv_M_558 : xCv "PageScribeModel" 558 1 ⟨"PageScribeModel", "cover", "(IZ)V"⟩ 2 := ⟨⟨by decide +kernel, by decide +kernel⟩, xpar_of (by decide +kernel), tw_9 (List.mem_of_getElem? (i := 234) rfl), ⟨_, rfl, List.mem_append_left _ (List.mem_of_getElem? (i := 108) (by decide +kernel))⟩, Or.inl (tw_9 (List.mem_of_getElem? (i := 232) rfl))⟩
theorem y_M_cover : xY ⟨"PageScribeModel", "cover", "(IZ)V"⟩ m_M_cover := ⟨rfl, rfl, by decide +kernel, Or.inl ⟨rfl, tw_9 (List.mem_of_getElem? (i := 235) rfl)⟩⟩
theorem l_M_281 : xFl "PageScribeModel" 281 1 25 := ⟨_, rfl, by decide, _, Or.inl rfl, Or.inl (tw_8 (List.mem_of_getElem? (i := 70) rfl))⟩
theorem cs_M_304 : xCt "PageScribeModel" 304 ⟨"PageScribeModel", "isLetter", "(C)Z"⟩ 1 := ⟨⟨by decide +kernel, by decide +kernel⟩, xpar_of (by decide +kernel), tw_9 (List.mem_of_getElem? (i := 2) rfl), tw_1 (List.mem_of_getElem? (i := 31) rfl), Or.inl (tw_9 (List.mem_of_getElem? (i := 1) rfl))⟩
theorem y_M_isLetter : xY ⟨"PageScribeModel", "isLetter", "(C)Z"⟩ m_M_isLetter := ⟨rfl, rfl, by decide +kernel, Or.inl ⟨rfl, tw_9 (List.mem_of_getElem? (i := 3) rfl)⟩⟩
theorem cv_M_307 : xCv "PageScribeModel" 307 1 ⟨"PageScribeModel", "operatorOf", "(J)I"⟩ 1 := ⟨⟨by decide +kernel, by decide +kernel⟩, xpar_of (by decide +kernel), tw_9 (List.mem_of_getElem? (i := 10) rfl), ⟨_, rfl, List.mem_append_left _ (List.mem_of_getElem? (i := 58) (by decide +kernel))⟩, Or.inl (tw_9 (List.mem_of_getElem? (i := 8) rfl))⟩
theorem y_M_operatorOf : xY ⟨"PageScribeModel", "operatorOf", "(J)I"⟩ m_M_operatorOf := ⟨rfl, rfl, by decide +kernel, Or.inl ⟨rfl, tw_9 (List.mem_of_getElem? (i := 11) rfl)⟩⟩
theorem l_M_68 : xFl "PageScribeModel" 68 1 29 := ⟨_, rfl, by decide, _, Or.inl rfl, Or.inl (tw_8 (List.mem_of_getElem? (i := 74) rfl))⟩
theorem cv_M_378 : xCv "PageScribeModel" 378 1 ⟨"PageScribeModel", "isProcedure", "(I)Z"⟩ 1 := ⟨⟨by decide +kernel, by decide +kernel⟩, xpar_of (by decide +kernel), tw_9 (List.mem_of_getElem? (i := 59) rfl), ⟨_, rfl, List.mem_append_left _ (List.mem_of_getElem? (i := 69) (by decide +kernel))⟩, Or.inl (tw_9 (List.mem_of_getElem? (i := 57) rfl))⟩
theorem y_M_isProcedure : xY ⟨"PageScribeModel", "isProcedure", "(I)Z"⟩ m_M_isProcedure := ⟨rfl, rfl, by decide +kernel, Or.inl ⟨rfl, tw_9 (List.mem_of_getElem? (i := 60) rfl)⟩⟩
theorem cv_M_382 : xCv "PageScribeModel" 382 1 ⟨"PageScribeModel", "runArray", "(J)I"⟩ 1 := ⟨⟨by decide +kernel, by decide +kernel⟩, xpar_of (by decide +kernel), tw_9 (List.mem_of_getElem? (i := 184) rfl), ⟨_, rfl, List.mem_append_left _ (List.mem_of_getElem? (i := 96) (by decide +kernel))⟩, Or.inl (tw_9 (List.mem_of_getElem? (i := 182) rfl))⟩
theorem y_M_runArray : xY ⟨"PageScribeModel", "runArray", "(J)I"⟩ m_M_runArray := ⟨rfl, rfl, by decide +kernel, Or.inl ⟨rfl, tw_9 (List.mem_of_getElem? (i := 185) rfl)⟩⟩
theorem cv_M_522 : xCv "PageScribeModel" 522 1 ⟨"PageScribeModel", "again", "()I"⟩ 0 := ⟨⟨by decide +kernel, by decide +kernel⟩, xpar_of (by decide +kernel), tw_9 (List.mem_of_getElem? (i := 192) rfl), ⟨_, rfl, List.mem_append_left _ (List.mem_of_getElem? (i := 98) (by decide +kernel))⟩, Or.inl (tw_9 (List.mem_of_getElem? (i := 190) rfl))⟩
theorem y_M_again : xY ⟨"PageScribeModel", "again", "()I"⟩ m_M_again := ⟨rfl, rfl, by decide +kernel, Or.inl ⟨rfl, tw_9 (List.mem_of_getElem? (i := 193) rfl)⟩⟩
theorem l_M_52 : xFl "PageScribeModel" 52 1 20 := ⟨_, rfl, by decide, _, Or.inl rfl, Or.inl (tw_8 (List.mem_of_getElem? (i := 65) rfl))⟩
theorem l_M_55 : xFl "PageScribeModel" 55 1 21 := ⟨_, rfl, by decide, _, Or.inl rfl, Or.inl (tw_8 (List.mem_of_getElem? (i := 66) rfl))⟩
theorem l_M_58 : xFl "PageScribeModel" 58 1 22 := ⟨_, rfl, by decide, _, Or.inl rfl, Or.inl (tw_8 (List.mem_of_getElem? (i := 67) rfl))⟩
theorem c_M_400 : Jvm.Cond.constantLong "PageScribeModel" 400 (-1) ∈ lw_tbl := tw_9 (List.mem_of_getElem? (i := 128) rfl)
theorem cv_M_262 : xCv "PageScribeModel" 262 1 ⟨"PageScribeModel", "give", "(IIJ)I"⟩ 3 := ⟨⟨by decide +kernel, by decide +kernel⟩, xpar_of (by decide +kernel), tw_9 (List.mem_of_getElem? (i := 110) rfl), ⟨_, rfl, List.mem_append_left _ (List.mem_of_getElem? (i := 81) (by decide +kernel))⟩, Or.inl (tw_9 (List.mem_of_getElem? (i := 108) rfl))⟩
theorem y_M_give : xY ⟨"PageScribeModel", "give", "(IIJ)I"⟩ m_M_give := ⟨rfl, rfl, by decide +kernel, Or.inl ⟨rfl, tw_9 (List.mem_of_getElem? (i := 111) rfl)⟩⟩
theorem c_M_495 : Jvm.Cond.constantLong "PageScribeModel" 495 (-31) ∈ lw_tbl := tw_9 (List.mem_of_getElem? (i := 130) rfl)
theorem cv_M_388 : xCv "PageScribeModel" 388 1 ⟨"PageScribeModel", "push", "(IJ)I"⟩ 2 := ⟨⟨by decide +kernel, by decide +kernel⟩, xpar_of (by decide +kernel), tw_9 (List.mem_of_getElem? (i := 80) rfl), ⟨_, rfl, List.mem_append_left _ (List.mem_of_getElem? (i := 74) (by decide +kernel))⟩, Or.inl (tw_9 (List.mem_of_getElem? (i := 78) rfl))⟩
theorem y_M_push : xY ⟨"PageScribeModel", "push", "(IJ)I"⟩ m_M_push := ⟨rfl, rfl, by decide +kernel, Or.inl ⟨rfl, tw_9 (List.mem_of_getElem? (i := 81) rfl)⟩⟩
theorem l_M_330 : xFl "PageScribeModel" 330 1 27 := ⟨_, rfl, by decide, _, Or.inl rfl, Or.inl (tw_8 (List.mem_of_getElem? (i := 72) rfl))⟩
theorem l_M_65 : xFl "PageScribeModel" 65 1 28 := ⟨_, rfl, by decide, _, Or.inl rfl, Or.inl (tw_8 (List.mem_of_getElem? (i := 73) rfl))⟩
theorem l_M_333 : xFl "PageScribeModel" 333 1 26 := ⟨_, rfl, by decide, _, Or.inl rfl, Or.inl (tw_8 (List.mem_of_getElem? (i := 71) rfl))⟩
theorem cv_M_336 : xCv "PageScribeModel" 336 1 ⟨"PageScribeModel", "newArray", "(III)I"⟩ 3 := ⟨⟨by decide +kernel, by decide +kernel⟩, xpar_of (by decide +kernel), tw_8 (List.mem_of_getElem? (i := 201) rfl), ⟨_, rfl, List.mem_append_left _ (List.mem_of_getElem? (i := 49) (by decide +kernel))⟩, Or.inl (tw_8 (List.mem_of_getElem? (i := 199) rfl))⟩
theorem y_M_newArray : xY ⟨"PageScribeModel", "newArray", "(III)I"⟩ m_M_newArray := ⟨rfl, rfl, by decide +kernel, Or.inl ⟨rfl, tw_8 (List.mem_of_getElem? (i := 202) rfl)⟩⟩
theorem l_M_30 : xFl "PageScribeModel" 30 1 9 := ⟨_, rfl, by decide, _, Or.inl rfl, Or.inl (tw_8 (List.mem_of_getElem? (i := 54) rfl))⟩
theorem cv_M_362 : xCv "PageScribeModel" 362 1 ⟨"PageScribeModel", "entry", "(IJ)I"⟩ 2 := ⟨⟨by decide +kernel, by decide +kernel⟩, xpar_of (by decide +kernel), tw_9 (List.mem_of_getElem? (i := 36) rfl), ⟨_, rfl, List.mem_append_left _ (List.mem_of_getElem? (i := 64) (by decide +kernel))⟩, Or.inl (tw_9 (List.mem_of_getElem? (i := 34) rfl))⟩
theorem y_M_entry : xY ⟨"PageScribeModel", "entry", "(IJ)I"⟩ m_M_entry := ⟨rfl, rfl, by decide +kernel, Or.inl ⟨rfl, tw_9 (List.mem_of_getElem? (i := 37) rfl)⟩⟩
theorem cv_M_266 : xCv "PageScribeModel" 266 1 ⟨"PageScribeModel", "giveReal", "(ID)I"⟩ 2 := ⟨⟨by decide +kernel, by decide +kernel⟩, xpar_of (by decide +kernel), tw_9 (List.mem_of_getElem? (i := 100) rfl), ⟨_, rfl, List.mem_append_left _ (List.mem_of_getElem? (i := 79) (by decide +kernel))⟩, Or.inl (tw_9 (List.mem_of_getElem? (i := 98) rfl))⟩
theorem y_M_giveReal : xY ⟨"PageScribeModel", "giveReal", "(ID)I"⟩ m_M_giveReal := ⟨rfl, rfl, by decide +kernel, Or.inl ⟨rfl, tw_9 (List.mem_of_getElem? (i := 101) rfl)⟩⟩
theorem cv_M_284 : xCv "PageScribeModel" 284 1 ⟨"PageScribeModel", "digits", "(I)I"⟩ 1 := ⟨⟨by decide +kernel, by decide +kernel⟩, xpar_of (by decide +kernel), tw_8 (List.mem_of_getElem? (i := 225) rfl), ⟨_, rfl, List.mem_append_left _ (List.mem_of_getElem? (i := 54) (by decide +kernel))⟩, Or.inl (tw_8 (List.mem_of_getElem? (i := 223) rfl))⟩
theorem y_M_digits : xY ⟨"PageScribeModel", "digits", "(I)I"⟩ m_M_digits := ⟨rfl, rfl, by decide +kernel, Or.inl ⟨rfl, tw_8 (List.mem_of_getElem? (i := 226) rfl)⟩⟩
theorem cv_M_288 : xCv "PageScribeModel" 288 1 ⟨"PageScribeModel", "whole", "(II)J"⟩ 2 := ⟨⟨by decide +kernel, by decide +kernel⟩, xpar_of (by decide +kernel), tw_8 (List.mem_of_getElem? (i := 229) rfl), ⟨_, rfl, List.mem_append_left _ (List.mem_of_getElem? (i := 55) (by decide +kernel))⟩, Or.inl (tw_8 (List.mem_of_getElem? (i := 227) rfl))⟩
theorem y_M_whole : xY ⟨"PageScribeModel", "whole", "(II)J"⟩ m_M_whole := ⟨rfl, rfl, by decide +kernel, Or.inl ⟨rfl, tw_8 (List.mem_of_getElem? (i := 230) rfl)⟩⟩
theorem cv_M_292 : xCv "PageScribeModel" 292 1 ⟨"PageScribeModel", "look", "(I)C"⟩ 1 := ⟨⟨by decide +kernel, by decide +kernel⟩, xpar_of (by decide +kernel), tw_8 (List.mem_of_getElem? (i := 235) rfl), ⟨_, rfl, List.mem_append_left _ (List.mem_of_getElem? (i := 56) (by decide +kernel))⟩, Or.inl (tw_8 (List.mem_of_getElem? (i := 233) rfl))⟩
theorem y_M_look : xY ⟨"PageScribeModel", "look", "(I)C"⟩ m_M_look := ⟨rfl, rfl, by decide +kernel, Or.inl ⟨rfl, tw_8 (List.mem_of_getElem? (i := 236) rfl)⟩⟩
theorem c_M_296 : Jvm.Cond.constantDouble "PageScribeModel" 296 4621819117588971520 ∈ lw_tbl := tw_8 (List.mem_of_getElem? (i := 237) rfl)
theorem c_M_298 : Jvm.Cond.constantDouble "PageScribeModel" 298 4636737291354636288 ∈ lw_tbl := tw_8 (List.mem_of_getElem? (i := 238) rfl)
theorem c_M_300 : Jvm.Cond.constantDouble "PageScribeModel" 300 4652007308841189376 ∈ lw_tbl := tw_8 (List.mem_of_getElem? (i := 239) rfl)
theorem c_M_302 : Jvm.Cond.constantDouble "PageScribeModel" 302 4666723172467343360 ∈ lw_tbl := tw_9 (List.mem_of_getElem? (i := 0) rfl)
theorem cv_M_543 : xCv "PageScribeModel" 543 1 ⟨"PageScribeModel", "isNewer", "(IJI)Z"⟩ 3 := ⟨⟨by decide +kernel, by decide +kernel⟩, xpar_of (by decide +kernel), tw_9 (List.mem_of_getElem? (i := 220) rfl), ⟨_, rfl, List.mem_append_left _ (List.mem_of_getElem? (i := 105) (by decide +kernel))⟩, Or.inl (tw_9 (List.mem_of_getElem? (i := 218) rfl))⟩
theorem y_M_isNewer : xY ⟨"PageScribeModel", "isNewer", "(IJI)Z"⟩ m_M_isNewer := ⟨rfl, rfl, by decide +kernel, Or.inl ⟨rfl, tw_9 (List.mem_of_getElem? (i := 221) rfl)⟩⟩
theorem cv_M_540 : xCv "PageScribeModel" 540 1 ⟨"PageScribeModel", "copyAll", "(II)V"⟩ 2 := ⟨⟨by decide +kernel, by decide +kernel⟩, xpar_of (by decide +kernel), tw_9 (List.mem_of_getElem? (i := 212) rfl), ⟨_, rfl, List.mem_append_left _ (List.mem_of_getElem? (i := 103) (by decide +kernel))⟩, Or.inl (tw_9 (List.mem_of_getElem? (i := 210) rfl))⟩
theorem y_M_copyAll : xY ⟨"PageScribeModel", "copyAll", "(II)V"⟩ m_M_copyAll := ⟨rfl, rfl, by decide +kernel, Or.inl ⟨rfl, tw_9 (List.mem_of_getElem? (i := 213) rfl)⟩⟩
theorem l_M_537 : xFl "PageScribeModel" 537 1 11 := ⟨_, rfl, by decide, _, Or.inl rfl, Or.inl (tw_8 (List.mem_of_getElem? (i := 56) rfl))⟩
theorem cv_M_470 : xCv "PageScribeModel" 470 1 ⟨"PageScribeModel", "topMark", "()I"⟩ 0 := ⟨⟨by decide +kernel, by decide +kernel⟩, xpar_of (by decide +kernel), tw_9 (List.mem_of_getElem? (i := 88) rfl), ⟨_, rfl, List.mem_append_left _ (List.mem_of_getElem? (i := 76) (by decide +kernel))⟩, Or.inl (tw_9 (List.mem_of_getElem? (i := 86) rfl))⟩
theorem y_M_topMark : xY ⟨"PageScribeModel", "topMark", "()I"⟩ m_M_topMark := ⟨rfl, rfl, by decide +kernel, Or.inl ⟨rfl, tw_9 (List.mem_of_getElem? (i := 89) rfl)⟩⟩
theorem cv_M_497 : xCv "PageScribeModel" 497 1 ⟨"PageScribeModel", "zeros", "(J)I"⟩ 1 := ⟨⟨by decide +kernel, by decide +kernel⟩, xpar_of (by decide +kernel), tw_9 (List.mem_of_getElem? (i := 144) rfl), ⟨_, rfl, List.mem_append_left _ (List.mem_of_getElem? (i := 87) (by decide +kernel))⟩, Or.inl (tw_9 (List.mem_of_getElem? (i := 142) rfl))⟩
theorem y_M_zeros : xY ⟨"PageScribeModel", "zeros", "(J)I"⟩ m_M_zeros := ⟨rfl, rfl, by decide +kernel, Or.inl ⟨rfl, tw_9 (List.mem_of_getElem? (i := 145) rfl)⟩⟩
theorem cv_M_500 : xCv "PageScribeModel" 500 1 ⟨"PageScribeModel", "get", "(I)I"⟩ 1 := ⟨⟨by decide +kernel, by decide +kernel⟩, xpar_of (by decide +kernel), tw_9 (List.mem_of_getElem? (i := 148) rfl), ⟨_, rfl, List.mem_append_left _ (List.mem_of_getElem? (i := 88) (by decide +kernel))⟩, Or.inl (tw_9 (List.mem_of_getElem? (i := 146) rfl))⟩
theorem y_M_get : xY ⟨"PageScribeModel", "get", "(I)I"⟩ m_M_get := ⟨rfl, rfl, by decide +kernel, Or.inl ⟨rfl, tw_9 (List.mem_of_getElem? (i := 149) rfl)⟩⟩
theorem cv_M_503 : xCv "PageScribeModel" 503 1 ⟨"PageScribeModel", "putEntry", "(IJI)I"⟩ 3 := ⟨⟨by decide +kernel, by decide +kernel⟩, xpar_of (by decide +kernel), tw_9 (List.mem_of_getElem? (i := 156) rfl), ⟨_, rfl, List.mem_append_left _ (List.mem_of_getElem? (i := 89) (by decide +kernel))⟩, Or.inl (tw_9 (List.mem_of_getElem? (i := 154) rfl))⟩
theorem y_M_putEntry : xY ⟨"PageScribeModel", "putEntry", "(IJI)I"⟩ m_M_putEntry := ⟨rfl, rfl, by decide +kernel, Or.inl ⟨rfl, tw_9 (List.mem_of_getElem? (i := 157) rfl)⟩⟩
theorem cv_M_507 : xCv "PageScribeModel" 507 1 ⟨"PageScribeModel", "putCell", "(I)I"⟩ 1 := ⟨⟨by decide +kernel, by decide +kernel⟩, xpar_of (by decide +kernel), tw_9 (List.mem_of_getElem? (i := 160) rfl), ⟨_, rfl, List.mem_append_left _ (List.mem_of_getElem? (i := 90) (by decide +kernel))⟩, Or.inl (tw_9 (List.mem_of_getElem? (i := 158) rfl))⟩
theorem y_M_putCell : xY ⟨"PageScribeModel", "putCell", "(I)I"⟩ m_M_putCell := ⟨rfl, rfl, by decide +kernel, Or.inl ⟨rfl, tw_9 (List.mem_of_getElem? (i := 161) rfl)⟩⟩
theorem cv_M_510 : xCv "PageScribeModel" 510 1 ⟨"PageScribeModel", "part", "(JJJ)I"⟩ 3 := ⟨⟨by decide +kernel, by decide +kernel⟩, xpar_of (by decide +kernel), tw_9 (List.mem_of_getElem? (i := 164) rfl), ⟨_, rfl, List.mem_append_left _ (List.mem_of_getElem? (i := 91) (by decide +kernel))⟩, Or.inl (tw_9 (List.mem_of_getElem? (i := 162) rfl))⟩
theorem y_M_part : xY ⟨"PageScribeModel", "part", "(JJJ)I"⟩ m_M_part := ⟨rfl, rfl, by decide +kernel, Or.inl ⟨rfl, tw_9 (List.mem_of_getElem? (i := 165) rfl)⟩⟩
theorem cv_M_513 : xCv "PageScribeModel" 513 1 ⟨"PageScribeModel", "load", "(J)I"⟩ 1 := ⟨⟨by decide +kernel, by decide +kernel⟩, xpar_of (by decide +kernel), tw_9 (List.mem_of_getElem? (i := 168) rfl), ⟨_, rfl, List.mem_append_left _ (List.mem_of_getElem? (i := 92) (by decide +kernel))⟩, Or.inl (tw_9 (List.mem_of_getElem? (i := 166) rfl))⟩
theorem y_M_load : xY ⟨"PageScribeModel", "load", "(J)I"⟩ m_M_load := ⟨rfl, rfl, by decide +kernel, Or.inl ⟨rfl, tw_9 (List.mem_of_getElem? (i := 169) rfl)⟩⟩
theorem cv_M_525 : xCv "PageScribeModel" 525 1 ⟨"PageScribeModel", "exit", "()I"⟩ 0 := ⟨⟨by decide +kernel, by decide +kernel⟩, xpar_of (by decide +kernel), tw_9 (List.mem_of_getElem? (i := 200) rfl), ⟨_, rfl, List.mem_append_left _ (List.mem_of_getElem? (i := 100) (by decide +kernel))⟩, Or.inl (tw_9 (List.mem_of_getElem? (i := 198) rfl))⟩
theorem y_M_exit : xY ⟨"PageScribeModel", "exit", "()I"⟩ m_M_exit := ⟨rfl, rfl, by decide +kernel, Or.inl ⟨rfl, tw_9 (List.mem_of_getElem? (i := 201) rfl)⟩⟩
theorem cv_M_528 : xCv "PageScribeModel" 528 1 ⟨"PageScribeModel", "save", "()I"⟩ 0 := ⟨⟨by decide +kernel, by decide +kernel⟩, xpar_of (by decide +kernel), tw_9 (List.mem_of_getElem? (i := 208) rfl), ⟨_, rfl, List.mem_append_left _ (List.mem_of_getElem? (i := 102) (by decide +kernel))⟩, Or.inl (tw_9 (List.mem_of_getElem? (i := 206) rfl))⟩
theorem y_M_save : xY ⟨"PageScribeModel", "save", "()I"⟩ m_M_save := ⟨rfl, rfl, by decide +kernel, Or.inl ⟨rfl, tw_9 (List.mem_of_getElem? (i := 209) rfl)⟩⟩
theorem cv_M_531 : xCv "PageScribeModel" 531 1 ⟨"PageScribeModel", "restore", "()I"⟩ 0 := ⟨⟨by decide +kernel, by decide +kernel⟩, xpar_of (by decide +kernel), tw_9 (List.mem_of_getElem? (i := 216) rfl), ⟨_, rfl, List.mem_append_left _ (List.mem_of_getElem? (i := 104) (by decide +kernel))⟩, Or.inl (tw_9 (List.mem_of_getElem? (i := 214) rfl))⟩
theorem y_M_restore : xY ⟨"PageScribeModel", "restore", "()I"⟩ m_M_restore := ⟨rfl, rfl, by decide +kernel, Or.inl ⟨rfl, tw_9 (List.mem_of_getElem? (i := 217) rfl)⟩⟩
theorem cv_M_519 : xCv "PageScribeModel" 519 1 ⟨"PageScribeModel", "newDict", "(J)I"⟩ 1 := ⟨⟨by decide +kernel, by decide +kernel⟩, xpar_of (by decide +kernel), tw_9 (List.mem_of_getElem? (i := 176) rfl), ⟨_, rfl, List.mem_append_left _ (List.mem_of_getElem? (i := 94) (by decide +kernel))⟩, Or.inl (tw_9 (List.mem_of_getElem? (i := 174) rfl))⟩
theorem y_M_newDict : xY ⟨"PageScribeModel", "newDict", "(J)I"⟩ m_M_newDict := ⟨rfl, rfl, by decide +kernel, Or.inl ⟨rfl, tw_9 (List.mem_of_getElem? (i := 177) rfl)⟩⟩
theorem cv_M_372 : xCv "PageScribeModel" 372 1 ⟨"PageScribeModel", "found", "(J)I"⟩ 1 := ⟨⟨by decide +kernel, by decide +kernel⟩, xpar_of (by decide +kernel), tw_9 (List.mem_of_getElem? (i := 32) rfl), ⟨_, rfl, List.mem_append_left _ (List.mem_of_getElem? (i := 63) (by decide +kernel))⟩, Or.inl (tw_9 (List.mem_of_getElem? (i := 30) rfl))⟩
theorem y_M_found : xY ⟨"PageScribeModel", "found", "(J)I"⟩ m_M_found := ⟨rfl, rfl, by decide +kernel, Or.inl ⟨rfl, tw_9 (List.mem_of_getElem? (i := 33) rfl)⟩⟩
theorem cv_M_318 : xCv "PageScribeModel" 318 1 ⟨"PageScribeModel", "readNumber", "()I"⟩ 0 := ⟨⟨by decide +kernel, by decide +kernel⟩, xpar_of (by decide +kernel), tw_8 (List.mem_of_getElem? (i := 221) rfl), ⟨_, rfl, List.mem_append_left _ (List.mem_of_getElem? (i := 53) (by decide +kernel))⟩, Or.inl (tw_8 (List.mem_of_getElem? (i := 219) rfl))⟩
theorem y_M_readNumber : xY ⟨"PageScribeModel", "readNumber", "()I"⟩ m_M_readNumber := ⟨rfl, rfl, by decide +kernel, Or.inl ⟨rfl, tw_8 (List.mem_of_getElem? (i := 222) rfl)⟩⟩
theorem cv_M_322 : xCv "PageScribeModel" 322 1 ⟨"PageScribeModel", "readWord", "(I)I"⟩ 1 := ⟨⟨by decide +kernel, by decide +kernel⟩, xpar_of (by decide +kernel), tw_9 (List.mem_of_getElem? (i := 6) rfl), ⟨_, rfl, List.mem_append_left _ (List.mem_of_getElem? (i := 57) (by decide +kernel))⟩, Or.inl (tw_9 (List.mem_of_getElem? (i := 4) rfl))⟩
theorem y_M_readWord : xY ⟨"PageScribeModel", "readWord", "(I)I"⟩ m_M_readWord := ⟨rfl, rfl, by decide +kernel, Or.inl ⟨rfl, tw_9 (List.mem_of_getElem? (i := 7) rfl)⟩⟩
theorem cv_M_477 : xCv "PageScribeModel" 477 1 ⟨"PageScribeModel", "giveExact", "(IJ)I"⟩ 2 := ⟨⟨by decide +kernel, by decide +kernel⟩, xpar_of (by decide +kernel), tw_9 (List.mem_of_getElem? (i := 106) rfl), ⟨_, rfl, List.mem_append_left _ (List.mem_of_getElem? (i := 80) (by decide +kernel))⟩, Or.inl (tw_9 (List.mem_of_getElem? (i := 104) rfl))⟩
theorem y_M_giveExact : xY ⟨"PageScribeModel", "giveExact", "(IJ)I"⟩ m_M_giveExact := ⟨rfl, rfl, by decide +kernel, Or.inl ⟨rfl, tw_9 (List.mem_of_getElem? (i := 107) rfl)⟩⟩
theorem cs_M_480 : xCt "PageScribeModel" 480 ⟨"PageScribeModel", "below", "(D)D"⟩ 1 := ⟨⟨by decide +kernel, by decide +kernel⟩, xpar_of (by decide +kernel), tw_9 (List.mem_of_getElem? (i := 117) rfl), tw_1 (List.mem_of_getElem? (i := 31) rfl), Or.inl (tw_9 (List.mem_of_getElem? (i := 116) rfl))⟩
theorem y_M_below : xY ⟨"PageScribeModel", "below", "(D)D"⟩ m_M_below := ⟨rfl, rfl, by decide +kernel, Or.inl ⟨rfl, tw_9 (List.mem_of_getElem? (i := 118) rfl)⟩⟩
theorem cv_M_369 : xCv "PageScribeModel" 369 1 ⟨"PageScribeModel", "pushValue", "(I)I"⟩ 1 := ⟨⟨by decide +kernel, by decide +kernel⟩, xpar_of (by decide +kernel), tw_9 (List.mem_of_getElem? (i := 28) rfl), ⟨_, rfl, List.mem_append_left _ (List.mem_of_getElem? (i := 62) (by decide +kernel))⟩, Or.inl (tw_9 (List.mem_of_getElem? (i := 26) rfl))⟩
theorem y_M_pushValue : xY ⟨"PageScribeModel", "pushValue", "(I)I"⟩ m_M_pushValue := ⟨rfl, rfl, by decide +kernel, Or.inl ⟨rfl, tw_9 (List.mem_of_getElem? (i := 29) rfl)⟩⟩
theorem c_M_461 : Jvm.Cond.constantLong "PageScribeModel" 461 40 ∈ lw_tbl := tw_9 (List.mem_of_getElem? (i := 73) rfl)
theorem cv_M_463 : xCv "PageScribeModel" 463 1 ⟨"PageScribeModel", "roll", "(JJ)I"⟩ 2 := ⟨⟨by decide +kernel, by decide +kernel⟩, xpar_of (by decide +kernel), tw_9 (List.mem_of_getElem? (i := 76) rfl), ⟨_, rfl, List.mem_append_left _ (List.mem_of_getElem? (i := 73) (by decide +kernel))⟩, Or.inl (tw_9 (List.mem_of_getElem? (i := 74) rfl))⟩
theorem y_M_roll : xY ⟨"PageScribeModel", "roll", "(JJ)I"⟩ m_M_roll := ⟨rfl, rfl, by decide +kernel, Or.inl ⟨rfl, tw_9 (List.mem_of_getElem? (i := 77) rfl)⟩⟩
theorem cv_M_467 : xCv "PageScribeModel" 467 1 ⟨"PageScribeModel", "toMark", "(I)I"⟩ 1 := ⟨⟨by decide +kernel, by decide +kernel⟩, xpar_of (by decide +kernel), tw_9 (List.mem_of_getElem? (i := 84) rfl), ⟨_, rfl, List.mem_append_left _ (List.mem_of_getElem? (i := 75) (by decide +kernel))⟩, Or.inl (tw_9 (List.mem_of_getElem? (i := 82) rfl))⟩
theorem y_M_toMark : xY ⟨"PageScribeModel", "toMark", "(I)I"⟩ m_M_toMark := ⟨rfl, rfl, by decide +kernel, Or.inl ⟨rfl, tw_9 (List.mem_of_getElem? (i := 85) rfl)⟩⟩
theorem cv_M_486 : xCv "PageScribeModel" 486 1 ⟨"PageScribeModel", "bits", "(II)I"⟩ 2 := ⟨⟨by decide +kernel, by decide +kernel⟩, xpar_of (by decide +kernel), tw_9 (List.mem_of_getElem? (i := 126) rfl), ⟨_, rfl, List.mem_append_left _ (List.mem_of_getElem? (i := 84) (by decide +kernel))⟩, Or.inl (tw_9 (List.mem_of_getElem? (i := 124) rfl))⟩
theorem y_M_bits : xY ⟨"PageScribeModel", "bits", "(II)I"⟩ m_M_bits := ⟨rfl, rfl, by decide +kernel, Or.inl ⟨rfl, tw_9 (List.mem_of_getElem? (i := 127) rfl)⟩⟩
theorem cv_M_490 : xCv "PageScribeModel" 490 1 ⟨"PageScribeModel", "alike", "(II)Z"⟩ 2 := ⟨⟨by decide +kernel, by decide +kernel⟩, xpar_of (by decide +kernel), tw_9 (List.mem_of_getElem? (i := 133) rfl), ⟨_, rfl, List.mem_append_left _ (List.mem_of_getElem? (i := 85) (by decide +kernel))⟩, Or.inl (tw_9 (List.mem_of_getElem? (i := 131) rfl))⟩
theorem y_M_alike : xY ⟨"PageScribeModel", "alike", "(II)Z"⟩ m_M_alike := ⟨rfl, rfl, by decide +kernel, Or.inl ⟨rfl, tw_9 (List.mem_of_getElem? (i := 134) rfl)⟩⟩
theorem cv_M_424 : xCv "PageScribeModel" 424 1 ⟨"PageScribeModel", "pattern", "(I)I"⟩ 1 := ⟨⟨by decide +kernel, by decide +kernel⟩, xpar_of (by decide +kernel), tw_9 (List.mem_of_getElem? (i := 47) rfl), ⟨_, rfl, List.mem_append_left _ (List.mem_of_getElem? (i := 66) (by decide +kernel))⟩, Or.inl (tw_9 (List.mem_of_getElem? (i := 45) rfl))⟩
theorem y_M_pattern : xY ⟨"PageScribeModel", "pattern", "(I)I"⟩ m_M_pattern := ⟨rfl, rfl, by decide +kernel, Or.inl ⟨rfl, tw_9 (List.mem_of_getElem? (i := 48) rfl)⟩⟩
theorem cv_M_427 : xCv "PageScribeModel" 427 1 ⟨"PageScribeModel", "suits", "(II)Z"⟩ 2 := ⟨⟨by decide +kernel, by decide +kernel⟩, xpar_of (by decide +kernel), tw_9 (List.mem_of_getElem? (i := 51) rfl), ⟨_, rfl, List.mem_append_left _ (List.mem_of_getElem? (i := 67) (by decide +kernel))⟩, Or.inl (tw_9 (List.mem_of_getElem? (i := 49) rfl))⟩
theorem y_M_suits : xY ⟨"PageScribeModel", "suits", "(II)Z"⟩ m_M_suits := ⟨rfl, rfl, by decide +kernel, Or.inl ⟨rfl, tw_9 (List.mem_of_getElem? (i := 52) rfl)⟩⟩
theorem cv_M_431 : xCv "PageScribeModel" 431 1 ⟨"PageScribeModel", "suitsOther", "(I)Z"⟩ 1 := ⟨⟨by decide +kernel, by decide +kernel⟩, xpar_of (by decide +kernel), tw_9 (List.mem_of_getElem? (i := 67) rfl), ⟨_, rfl, List.mem_append_left _ (List.mem_of_getElem? (i := 71) (by decide +kernel))⟩, Or.inl (tw_9 (List.mem_of_getElem? (i := 65) rfl))⟩
theorem y_M_suitsOther : xY ⟨"PageScribeModel", "suitsOther", "(I)Z"⟩ m_M_suitsOther := ⟨rfl, rfl, by decide +kernel, Or.inl ⟨rfl, tw_9 (List.mem_of_getElem? (i := 68) rfl)⟩⟩
theorem cv_M_434 : xCv "PageScribeModel" 434 1 ⟨"PageScribeModel", "stackOperator", "(I)I"⟩ 1 := ⟨⟨by decide +kernel, by decide +kernel⟩, xpar_of (by decide +kernel), tw_9 (List.mem_of_getElem? (i := 71) rfl), ⟨_, rfl, List.mem_append_left _ (List.mem_of_getElem? (i := 72) (by decide +kernel))⟩, Or.inl (tw_9 (List.mem_of_getElem? (i := 69) rfl))⟩
theorem y_M_stackOperator : xY ⟨"PageScribeModel", "stackOperator", "(I)I"⟩ m_M_stackOperator := ⟨rfl, rfl, by decide +kernel, Or.inl ⟨rfl, tw_9 (List.mem_of_getElem? (i := 72) rfl)⟩⟩
theorem cv_M_437 : xCv "PageScribeModel" 437 1 ⟨"PageScribeModel", "sum", "(I)I"⟩ 1 := ⟨⟨by decide +kernel, by decide +kernel⟩, xpar_of (by decide +kernel), tw_9 (List.mem_of_getElem? (i := 92) rfl), ⟨_, rfl, List.mem_append_left _ (List.mem_of_getElem? (i := 77) (by decide +kernel))⟩, Or.inl (tw_9 (List.mem_of_getElem? (i := 90) rfl))⟩
theorem y_M_sum : xY ⟨"PageScribeModel", "sum", "(I)I"⟩ m_M_sum := ⟨rfl, rfl, by decide +kernel, Or.inl ⟨rfl, tw_9 (List.mem_of_getElem? (i := 93) rfl)⟩⟩
theorem cv_M_440 : xCv "PageScribeModel" 440 1 ⟨"PageScribeModel", "single", "(I)I"⟩ 1 := ⟨⟨by decide +kernel, by decide +kernel⟩, xpar_of (by decide +kernel), tw_9 (List.mem_of_getElem? (i := 114) rfl), ⟨_, rfl, List.mem_append_left _ (List.mem_of_getElem? (i := 82) (by decide +kernel))⟩, Or.inl (tw_9 (List.mem_of_getElem? (i := 112) rfl))⟩
theorem y_M_single : xY ⟨"PageScribeModel", "single", "(I)I"⟩ m_M_single := ⟨rfl, rfl, by decide +kernel, Or.inl ⟨rfl, tw_9 (List.mem_of_getElem? (i := 115) rfl)⟩⟩
theorem cv_M_443 : xCv "PageScribeModel" 443 1 ⟨"PageScribeModel", "truth", "(I)I"⟩ 1 := ⟨⟨by decide +kernel, by decide +kernel⟩, xpar_of (by decide +kernel), tw_9 (List.mem_of_getElem? (i := 122) rfl), ⟨_, rfl, List.mem_append_left _ (List.mem_of_getElem? (i := 83) (by decide +kernel))⟩, Or.inl (tw_9 (List.mem_of_getElem? (i := 120) rfl))⟩
theorem y_M_truth : xY ⟨"PageScribeModel", "truth", "(I)I"⟩ m_M_truth := ⟨rfl, rfl, by decide +kernel, Or.inl ⟨rfl, tw_9 (List.mem_of_getElem? (i := 123) rfl)⟩⟩
theorem cv_M_446 : xCv "PageScribeModel" 446 1 ⟨"PageScribeModel", "arrayOperator", "(I)I"⟩ 1 := ⟨⟨by decide +kernel, by decide +kernel⟩, xpar_of (by decide +kernel), tw_9 (List.mem_of_getElem? (i := 140) rfl), ⟨_, rfl, List.mem_append_left _ (List.mem_of_getElem? (i := 86) (by decide +kernel))⟩, Or.inl (tw_9 (List.mem_of_getElem? (i := 138) rfl))⟩
theorem y_M_arrayOperator : xY ⟨"PageScribeModel", "arrayOperator", "(I)I"⟩ m_M_arrayOperator := ⟨rfl, rfl, by decide +kernel, Or.inl ⟨rfl, tw_9 (List.mem_of_getElem? (i := 141) rfl)⟩⟩
theorem cv_M_449 : xCv "PageScribeModel" 449 1 ⟨"PageScribeModel", "dictOperator", "(I)I"⟩ 1 := ⟨⟨by decide +kernel, by decide +kernel⟩, xpar_of (by decide +kernel), tw_9 (List.mem_of_getElem? (i := 172) rfl), ⟨_, rfl, List.mem_append_left _ (List.mem_of_getElem? (i := 93) (by decide +kernel))⟩, Or.inl (tw_9 (List.mem_of_getElem? (i := 170) rfl))⟩
theorem y_M_dictOperator : xY ⟨"PageScribeModel", "dictOperator", "(I)I"⟩ m_M_dictOperator := ⟨rfl, rfl, by decide +kernel, Or.inl ⟨rfl, tw_9 (List.mem_of_getElem? (i := 173) rfl)⟩⟩
theorem cv_M_452 : xCv "PageScribeModel" 452 1 ⟨"PageScribeModel", "begins", "(I)I"⟩ 1 := ⟨⟨by decide +kernel, by decide +kernel⟩, xpar_of (by decide +kernel), tw_9 (List.mem_of_getElem? (i := 180) rfl), ⟨_, rfl, List.mem_append_left _ (List.mem_of_getElem? (i := 95) (by decide +kernel))⟩, Or.inl (tw_9 (List.mem_of_getElem? (i := 178) rfl))⟩
theorem y_M_begins : xY ⟨"PageScribeModel", "begins", "(I)I"⟩ m_M_begins := ⟨rfl, rfl, by decide +kernel, Or.inl ⟨rfl, tw_9 (List.mem_of_getElem? (i := 181) rfl)⟩⟩
theorem cv_M_455 : xCv "PageScribeModel" 455 1 ⟨"PageScribeModel", "control", "(I)I"⟩ 1 := ⟨⟨by decide +kernel, by decide +kernel⟩, xpar_of (by decide +kernel), tw_9 (List.mem_of_getElem? (i := 196) rfl), ⟨_, rfl, List.mem_append_left _ (List.mem_of_getElem? (i := 99) (by decide +kernel))⟩, Or.inl (tw_9 (List.mem_of_getElem? (i := 194) rfl))⟩
theorem y_M_control : xY ⟨"PageScribeModel", "control", "(I)I"⟩ m_M_control := ⟨rfl, rfl, by decide +kernel, Or.inl ⟨rfl, tw_9 (List.mem_of_getElem? (i := 197) rfl)⟩⟩
theorem cv_M_458 : xCv "PageScribeModel" 458 1 ⟨"PageScribeModel", "paint", "(I)I"⟩ 1 := ⟨⟨by decide +kernel, by decide +kernel⟩, xpar_of (by decide +kernel), tw_9 (List.mem_of_getElem? (i := 224) rfl), ⟨_, rfl, List.mem_append_left _ (List.mem_of_getElem? (i := 106) (by decide +kernel))⟩, Or.inl (tw_9 (List.mem_of_getElem? (i := 222) rfl))⟩
theorem y_M_paint : xY ⟨"PageScribeModel", "paint", "(I)I"⟩ m_M_paint := ⟨rfl, rfl, by decide +kernel, Or.inl ⟨rfl, tw_9 (List.mem_of_getElem? (i := 225) rfl)⟩⟩
theorem cv_M_340 : xCv "PageScribeModel" 340 1 ⟨"PageScribeModel", "close", "()I"⟩ 0 := ⟨⟨by decide +kernel, by decide +kernel⟩, xpar_of (by decide +kernel), tw_8 (List.mem_of_getElem? (i := 197) rfl), ⟨_, rfl, List.mem_append_left _ (List.mem_of_getElem? (i := 48) (by decide +kernel))⟩, Or.inl (tw_8 (List.mem_of_getElem? (i := 195) rfl))⟩
theorem y_M_close : xY ⟨"PageScribeModel", "close", "()I"⟩ m_M_close := ⟨rfl, rfl, by decide +kernel, Or.inl ⟨rfl, tw_8 (List.mem_of_getElem? (i := 198) rfl)⟩⟩
theorem cv_M_343 : xCv "PageScribeModel" 343 1 ⟨"PageScribeModel", "readSimple", "()I"⟩ 0 := ⟨⟨by decide +kernel, by decide +kernel⟩, xpar_of (by decide +kernel), tw_8 (List.mem_of_getElem? (i := 214) rfl), ⟨_, rfl, List.mem_append_left _ (List.mem_of_getElem? (i := 52) (by decide +kernel))⟩, Or.inl (tw_8 (List.mem_of_getElem? (i := 212) rfl))⟩
theorem y_M_readSimple : xY ⟨"PageScribeModel", "readSimple", "()I"⟩ m_M_readSimple := ⟨rfl, rfl, by decide +kernel, Or.inl ⟨rfl, tw_8 (List.mem_of_getElem? (i := 215) rfl)⟩⟩
theorem cv_M_366 : xCv "PageScribeModel" 366 1 ⟨"PageScribeModel", "step", "()I"⟩ 0 := ⟨⟨by decide +kernel, by decide +kernel⟩, xpar_of (by decide +kernel), tw_9 (List.mem_of_getElem? (i := 24) rfl), ⟨_, rfl, List.mem_append_left _ (List.mem_of_getElem? (i := 61) (by decide +kernel))⟩, Or.inl (tw_9 (List.mem_of_getElem? (i := 22) rfl))⟩
theorem y_M_step : xY ⟨"PageScribeModel", "step", "()I"⟩ m_M_step := ⟨rfl, rfl, by decide +kernel, Or.inl ⟨rfl, tw_9 (List.mem_of_getElem? (i := 25) rfl)⟩⟩
theorem cv_M_375 : xCv "PageScribeModel" 375 1 ⟨"PageScribeModel", "operate", "(I)I"⟩ 1 := ⟨⟨by decide +kernel, by decide +kernel⟩, xpar_of (by decide +kernel), tw_9 (List.mem_of_getElem? (i := 43) rfl), ⟨_, rfl, List.mem_append_left _ (List.mem_of_getElem? (i := 65) (by decide +kernel))⟩, Or.inl (tw_9 (List.mem_of_getElem? (i := 41) rfl))⟩
theorem y_M_operate : xY ⟨"PageScribeModel", "operate", "(I)I"⟩ m_M_operate := ⟨rfl, rfl, by decide +kernel, Or.inl ⟨rfl, tw_9 (List.mem_of_getElem? (i := 44) rfl)⟩⟩
theorem cv_M_397 : xCv "PageScribeModel" 397 1 ⟨"PageScribeModel", "doValue", "()I"⟩ 0 := ⟨⟨by decide +kernel, by decide +kernel⟩, xpar_of (by decide +kernel), tw_9 (List.mem_of_getElem? (i := 20) rfl), ⟨_, rfl, List.mem_append_left _ (List.mem_of_getElem? (i := 60) (by decide +kernel))⟩, Or.inl (tw_9 (List.mem_of_getElem? (i := 18) rfl))⟩
theorem y_M_doValue : xY ⟨"PageScribeModel", "doValue", "()I"⟩ m_M_doValue := ⟨rfl, rfl, by decide +kernel, Or.inl ⟨rfl, tw_9 (List.mem_of_getElem? (i := 21) rfl)⟩⟩
theorem c_M_405 : Jvm.Cond.constant "PageScribeModel" 405 100000 ∈ lw_tbl := tw_9 (List.mem_of_getElem? (i := 238) rfl)
theorem cv_M_406 : xCv "PageScribeModel" 406 1 ⟨"PageScribeModel", "caught", "(I)I"⟩ 1 := ⟨⟨by decide +kernel, by decide +kernel⟩, xpar_of (by decide +kernel), tw_10 (List.mem_of_getElem? (i := 1) rfl), ⟨_, rfl, List.mem_append_left _ (List.mem_of_getElem? (i := 109) (by decide +kernel))⟩, Or.inl (tw_9 (List.mem_of_getElem? (i := 239) rfl))⟩
theorem y_M_caught : xY ⟨"PageScribeModel", "caught", "(I)I"⟩ m_M_caught := ⟨rfl, rfl, by decide +kernel, Or.inl ⟨rfl, tw_10 (List.mem_of_getElem? (i := 2) rfl)⟩⟩
theorem cv_M_409 : xCv "PageScribeModel" 409 1 ⟨"PageScribeModel", "advance", "()I"⟩ 0 := ⟨⟨by decide +kernel, by decide +kernel⟩, xpar_of (by decide +kernel), tw_10 (List.mem_of_getElem? (i := 5) rfl), ⟨_, rfl, List.mem_append_left _ (List.mem_of_getElem? (i := 110) (by decide +kernel))⟩, Or.inl (tw_10 (List.mem_of_getElem? (i := 3) rfl))⟩
theorem y_M_advance : xY ⟨"PageScribeModel", "advance", "()I"⟩ m_M_advance := ⟨rfl, rfl, by decide +kernel, Or.inl ⟨rfl, tw_10 (List.mem_of_getElem? (i := 6) rfl)⟩⟩
theorem cv_M_412 : xCv "PageScribeModel" 412 1 ⟨"PageScribeModel", "token", "()I"⟩ 0 := ⟨⟨by decide +kernel, by decide +kernel⟩, xpar_of (by decide +kernel), tw_8 (List.mem_of_getElem? (i := 193) rfl), ⟨_, rfl, List.mem_append_left _ (List.mem_of_getElem? (i := 47) (by decide +kernel))⟩, Or.inl (tw_8 (List.mem_of_getElem? (i := 191) rfl))⟩
theorem y_M_token : xY ⟨"PageScribeModel", "token", "()I"⟩ m_M_token := ⟨rfl, rfl, by decide +kernel, Or.inl ⟨rfl, tw_8 (List.mem_of_getElem? (i := 194) rfl)⟩⟩
theorem cv_M_415 : xCv "PageScribeModel" 415 1 ⟨"PageScribeModel", "work", "()I"⟩ 0 := ⟨⟨by decide +kernel, by decide +kernel⟩, xpar_of (by decide +kernel), tw_9 (List.mem_of_getElem? (i := 16) rfl), ⟨_, rfl, List.mem_append_left _ (List.mem_of_getElem? (i := 59) (by decide +kernel))⟩, Or.inl (tw_9 (List.mem_of_getElem? (i := 14) rfl))⟩
theorem y_M_work : xY ⟨"PageScribeModel", "work", "()I"⟩ m_M_work := ⟨rfl, rfl, by decide +kernel, Or.inl ⟨rfl, tw_9 (List.mem_of_getElem? (i := 17) rfl)⟩⟩
