def m_M_init : xM := ("PageScribeModel", prog_21_method_1_code, 3, none, [], "<init>")
def m_W_law : xM := ("PageScribeLaw", code, 9, (some .boolean), [], "law")
theorem fp_1_1 : xFp 1 1 true := ⟨_, rfl, by decide, tw_8 (List.mem_of_getElem? (i := 92) rfl), by rfl, rfl⟩
theorem fo_M_7 : ∃ q : vw_C, xCl[1]? = some q ∧ (q.2.1 1).1 = "PageScribeModel" ∧ Cond.fieldLink "PageScribeModel" 7 "PageScribeModel" (q.2.1 1).2.1 (q.2.1 1).2.2.1 ∈ lw_tbl := ⟨_, rfl, rfl, tw_8 (List.mem_of_getElem? (i := 46) rfl)⟩
theorem fp_1_2 : xFp 1 2 true := ⟨_, rfl, by decide, tw_8 (List.mem_of_getElem? (i := 94) rfl), by rfl, rfl⟩
theorem fo_M_13 : ∃ q : vw_C, xCl[1]? = some q ∧ (q.2.1 2).1 = "PageScribeModel" ∧ Cond.fieldLink "PageScribeModel" 13 "PageScribeModel" (q.2.1 2).2.1 (q.2.1 2).2.2.1 ∈ lw_tbl := ⟨_, rfl, rfl, tw_8 (List.mem_of_getElem? (i := 47) rfl)⟩
theorem fp_1_3 : xFp 1 3 true := ⟨_, rfl, by decide, tw_8 (List.mem_of_getElem? (i := 96) rfl), by rfl, rfl⟩
theorem fo_M_17 : ∃ q : vw_C, xCl[1]? = some q ∧ (q.2.1 3).1 = "PageScribeModel" ∧ Cond.fieldLink "PageScribeModel" 17 "PageScribeModel" (q.2.1 3).2.1 (q.2.1 3).2.2.1 ∈ lw_tbl := ⟨_, rfl, rfl, tw_8 (List.mem_of_getElem? (i := 48) rfl)⟩
theorem fp_1_6 : xFp 1 6 true := ⟨_, rfl, by decide, tw_8 (List.mem_of_getElem? (i := 102) rfl), by rfl, rfl⟩
theorem fo_M_21 : ∃ q : vw_C, xCl[1]? = some q ∧ (q.2.1 6).1 = "PageScribeModel" ∧ Cond.fieldLink "PageScribeModel" 21 "PageScribeModel" (q.2.1 6).2.1 (q.2.1 6).2.2.1 ∈ lw_tbl := ⟨_, rfl, rfl, tw_8 (List.mem_of_getElem? (i := 51) rfl)⟩
theorem fp_1_7 : xFp 1 7 true := ⟨_, rfl, by decide, tw_8 (List.mem_of_getElem? (i := 104) rfl), by rfl, rfl⟩
theorem fo_M_24 : ∃ q : vw_C, xCl[1]? = some q ∧ (q.2.1 7).1 = "PageScribeModel" ∧ Cond.fieldLink "PageScribeModel" 24 "PageScribeModel" (q.2.1 7).2.1 (q.2.1 7).2.2.1 ∈ lw_tbl := ⟨_, rfl, rfl, tw_8 (List.mem_of_getElem? (i := 52) rfl)⟩
theorem fp_1_8 : xFp 1 8 true := ⟨_, rfl, by decide, tw_8 (List.mem_of_getElem? (i := 106) rfl), by rfl, rfl⟩
theorem fo_M_27 : ∃ q : vw_C, xCl[1]? = some q ∧ (q.2.1 8).1 = "PageScribeModel" ∧ Cond.fieldLink "PageScribeModel" 27 "PageScribeModel" (q.2.1 8).2.1 (q.2.1 8).2.2.1 ∈ lw_tbl := ⟨_, rfl, rfl, tw_8 (List.mem_of_getElem? (i := 53) rfl)⟩
theorem fp_1_9 : xFp 1 9 true := ⟨_, rfl, by decide, tw_8 (List.mem_of_getElem? (i := 108) rfl), by rfl, rfl⟩
theorem fo_M_30 : ∃ q : vw_C, xCl[1]? = some q ∧ (q.2.1 9).1 = "PageScribeModel" ∧ Cond.fieldLink "PageScribeModel" 30 "PageScribeModel" (q.2.1 9).2.1 (q.2.1 9).2.2.1 ∈ lw_tbl := ⟨_, rfl, rfl, tw_8 (List.mem_of_getElem? (i := 54) rfl)⟩
theorem fp_1_10 : xFp 1 10 false := ⟨_, rfl, by decide, tw_8 (List.mem_of_getElem? (i := 110) rfl), by rfl, rfl⟩
theorem fp_1_13 : xFp 1 13 true := ⟨_, rfl, by decide, tw_8 (List.mem_of_getElem? (i := 116) rfl), by rfl, rfl⟩
theorem fo_M_37 : ∃ q : vw_C, xCl[1]? = some q ∧ (q.2.1 13).1 = "PageScribeModel" ∧ Cond.fieldLink "PageScribeModel" 37 "PageScribeModel" (q.2.1 13).2.1 (q.2.1 13).2.2.1 ∈ lw_tbl := ⟨_, rfl, rfl, tw_8 (List.mem_of_getElem? (i := 58) rfl)⟩
theorem fp_1_14 : xFp 1 14 true := ⟨_, rfl, by decide, tw_8 (List.mem_of_getElem? (i := 118) rfl), by rfl, rfl⟩
theorem fo_M_40 : ∃ q : vw_C, xCl[1]? = some q ∧ (q.2.1 14).1 = "PageScribeModel" ∧ Cond.fieldLink "PageScribeModel" 40 "PageScribeModel" (q.2.1 14).2.1 (q.2.1 14).2.2.1 ∈ lw_tbl := ⟨_, rfl, rfl, tw_8 (List.mem_of_getElem? (i := 59) rfl)⟩
theorem fp_1_17 : xFp 1 17 true := ⟨_, rfl, by decide, tw_8 (List.mem_of_getElem? (i := 124) rfl), by rfl, rfl⟩
theorem fo_M_43 : ∃ q : vw_C, xCl[1]? = some q ∧ (q.2.1 17).1 = "PageScribeModel" ∧ Cond.fieldLink "PageScribeModel" 43 "PageScribeModel" (q.2.1 17).2.1 (q.2.1 17).2.2.1 ∈ lw_tbl := ⟨_, rfl, rfl, tw_8 (List.mem_of_getElem? (i := 62) rfl)⟩
theorem fp_1_18 : xFp 1 18 true := ⟨_, rfl, by decide, tw_8 (List.mem_of_getElem? (i := 126) rfl), by rfl, rfl⟩
theorem fo_M_46 : ∃ q : vw_C, xCl[1]? = some q ∧ (q.2.1 18).1 = "PageScribeModel" ∧ Cond.fieldLink "PageScribeModel" 46 "PageScribeModel" (q.2.1 18).2.1 (q.2.1 18).2.2.1 ∈ lw_tbl := ⟨_, rfl, rfl, tw_8 (List.mem_of_getElem? (i := 63) rfl)⟩
theorem fp_1_19 : xFp 1 19 true := ⟨_, rfl, by decide, tw_8 (List.mem_of_getElem? (i := 128) rfl), by rfl, rfl⟩
theorem fo_M_49 : ∃ q : vw_C, xCl[1]? = some q ∧ (q.2.1 19).1 = "PageScribeModel" ∧ Cond.fieldLink "PageScribeModel" 49 "PageScribeModel" (q.2.1 19).2.1 (q.2.1 19).2.2.1 ∈ lw_tbl := ⟨_, rfl, rfl, tw_8 (List.mem_of_getElem? (i := 64) rfl)⟩
theorem fp_1_20 : xFp 1 20 true := ⟨_, rfl, by decide, tw_8 (List.mem_of_getElem? (i := 130) rfl), by rfl, rfl⟩
theorem fo_M_52 : ∃ q : vw_C, xCl[1]? = some q ∧ (q.2.1 20).1 = "PageScribeModel" ∧ Cond.fieldLink "PageScribeModel" 52 "PageScribeModel" (q.2.1 20).2.1 (q.2.1 20).2.2.1 ∈ lw_tbl := ⟨_, rfl, rfl, tw_8 (List.mem_of_getElem? (i := 65) rfl)⟩
theorem fp_1_21 : xFp 1 21 true := ⟨_, rfl, by decide, tw_8 (List.mem_of_getElem? (i := 132) rfl), by rfl, rfl⟩
theorem fo_M_55 : ∃ q : vw_C, xCl[1]? = some q ∧ (q.2.1 21).1 = "PageScribeModel" ∧ Cond.fieldLink "PageScribeModel" 55 "PageScribeModel" (q.2.1 21).2.1 (q.2.1 21).2.2.1 ∈ lw_tbl := ⟨_, rfl, rfl, tw_8 (List.mem_of_getElem? (i := 66) rfl)⟩
theorem fp_1_22 : xFp 1 22 true := ⟨_, rfl, by decide, tw_8 (List.mem_of_getElem? (i := 134) rfl), by rfl, rfl⟩
theorem fo_M_58 : ∃ q : vw_C, xCl[1]? = some q ∧ (q.2.1 22).1 = "PageScribeModel" ∧ Cond.fieldLink "PageScribeModel" 58 "PageScribeModel" (q.2.1 22).2.1 (q.2.1 22).2.2.1 ∈ lw_tbl := ⟨_, rfl, rfl, tw_8 (List.mem_of_getElem? (i := 67) rfl)⟩
theorem fp_1_23 : xFp 1 23 true := ⟨_, rfl, by decide, tw_8 (List.mem_of_getElem? (i := 136) rfl), by rfl, rfl⟩
theorem fo_M_61 : ∃ q : vw_C, xCl[1]? = some q ∧ (q.2.1 23).1 = "PageScribeModel" ∧ Cond.fieldLink "PageScribeModel" 61 "PageScribeModel" (q.2.1 23).2.1 (q.2.1 23).2.2.1 ∈ lw_tbl := ⟨_, rfl, rfl, tw_8 (List.mem_of_getElem? (i := 68) rfl)⟩
theorem fp_1_28 : xFp 1 28 true := ⟨_, rfl, by decide, tw_8 (List.mem_of_getElem? (i := 146) rfl), by rfl, rfl⟩
theorem fo_M_65 : ∃ q : vw_C, xCl[1]? = some q ∧ (q.2.1 28).1 = "PageScribeModel" ∧ Cond.fieldLink "PageScribeModel" 65 "PageScribeModel" (q.2.1 28).2.1 (q.2.1 28).2.2.1 ∈ lw_tbl := ⟨_, rfl, rfl, tw_8 (List.mem_of_getElem? (i := 73) rfl)⟩
theorem fp_1_29 : xFp 1 29 true := ⟨_, rfl, by decide, tw_8 (List.mem_of_getElem? (i := 148) rfl), by rfl, rfl⟩
theorem fo_M_68 : ∃ q : vw_C, xCl[1]? = some q ∧ (q.2.1 29).1 = "PageScribeModel" ∧ Cond.fieldLink "PageScribeModel" 68 "PageScribeModel" (q.2.1 29).2.1 (q.2.1 29).2.2.1 ∈ lw_tbl := ⟨_, rfl, rfl, tw_8 (List.mem_of_getElem? (i := 74) rfl)⟩
theorem fp_1_36 : xFp 1 36 true := ⟨_, rfl, by decide, tw_8 (List.mem_of_getElem? (i := 162) rfl), by rfl, rfl⟩
theorem fo_M_71 : ∃ q : vw_C, xCl[1]? = some q ∧ (q.2.1 36).1 = "PageScribeModel" ∧ Cond.fieldLink "PageScribeModel" 71 "PageScribeModel" (q.2.1 36).2.1 (q.2.1 36).2.2.1 ∈ lw_tbl := ⟨_, rfl, rfl, tw_8 (List.mem_of_getElem? (i := 81) rfl)⟩
theorem fp_1_37 : xFp 1 37 false := ⟨_, rfl, by decide, tw_8 (List.mem_of_getElem? (i := 164) rfl), by rfl, rfl⟩
theorem fp_1_38 : xFp 1 38 true := ⟨_, rfl, by decide, tw_8 (List.mem_of_getElem? (i := 166) rfl), by rfl, rfl⟩
theorem fo_M_78 : ∃ q : vw_C, xCl[1]? = some q ∧ (q.2.1 38).1 = "PageScribeModel" ∧ Cond.fieldLink "PageScribeModel" 78 "PageScribeModel" (q.2.1 38).2.1 (q.2.1 38).2.2.1 ∈ lw_tbl := ⟨_, rfl, rfl, tw_8 (List.mem_of_getElem? (i := 83) rfl)⟩
theorem fp_1_39 : xFp 1 39 true := ⟨_, rfl, by decide, tw_8 (List.mem_of_getElem? (i := 168) rfl), by rfl, rfl⟩
theorem fo_M_81 : ∃ q : vw_C, xCl[1]? = some q ∧ (q.2.1 39).1 = "PageScribeModel" ∧ Cond.fieldLink "PageScribeModel" 81 "PageScribeModel" (q.2.1 39).2.1 (q.2.1 39).2.2.1 ∈ lw_tbl := ⟨_, rfl, rfl, tw_8 (List.mem_of_getElem? (i := 84) rfl)⟩
theorem fp_1_40 : xFp 1 40 true := ⟨_, rfl, by decide, tw_8 (List.mem_of_getElem? (i := 170) rfl), by rfl, rfl⟩
theorem fo_M_84 : ∃ q : vw_C, xCl[1]? = some q ∧ (q.2.1 40).1 = "PageScribeModel" ∧ Cond.fieldLink "PageScribeModel" 84 "PageScribeModel" (q.2.1 40).2.1 (q.2.1 40).2.2.1 ∈ lw_tbl := ⟨_, rfl, rfl, tw_8 (List.mem_of_getElem? (i := 85) rfl)⟩
theorem fp_1_42 : xFp 1 42 true := ⟨_, rfl, by decide, tw_8 (List.mem_of_getElem? (i := 174) rfl), by rfl, rfl⟩
theorem fo_M_87 : ∃ q : vw_C, xCl[1]? = some q ∧ (q.2.1 42).1 = "PageScribeModel" ∧ Cond.fieldLink "PageScribeModel" 87 "PageScribeModel" (q.2.1 42).2.1 (q.2.1 42).2.2.1 ∈ lw_tbl := ⟨_, rfl, rfl, tw_8 (List.mem_of_getElem? (i := 87) rfl)⟩
theorem c_M_90 : Jvm.Cond.constantLong "PageScribeModel" 90 16880 ∈ lw_tbl := tw_7 (List.mem_of_getElem? (i := 215) rfl)
theorem c_M_92 : Jvm.Cond.constantLong "PageScribeModel" 92 265989 ∈ lw_tbl := tw_7 (List.mem_of_getElem? (i := 216) rfl)
theorem c_M_94 : Jvm.Cond.constantLong "PageScribeModel" 94 17060 ∈ lw_tbl := tw_7 (List.mem_of_getElem? (i := 217) rfl)
theorem c_M_96 : Jvm.Cond.constantLong "PageScribeModel" 96 836067 ∈ lw_tbl := tw_7 (List.mem_of_getElem? (i := 218) rfl)
theorem c_M_98 : Jvm.Cond.constantLong "PageScribeModel" 98 25334217 ∈ lw_tbl := tw_7 (List.mem_of_getElem? (i := 219) rfl)
theorem c_M_100 : Jvm.Cond.constantLong "PageScribeModel" 100 406002 ∈ lw_tbl := tw_7 (List.mem_of_getElem? (i := 220) rfl)
theorem c_M_102 : Jvm.Cond.constantLong "PageScribeModel" 102 18912643 ∈ lw_tbl := tw_7 (List.mem_of_getElem? (i := 221) rfl)
theorem c_M_104 : Jvm.Cond.constantLong "PageScribeModel" 104 21452259 ∈ lw_tbl := tw_7 (List.mem_of_getElem? (i := 222) rfl)
theorem c_M_106 : Jvm.Cond.constantLong "PageScribeModel" 106 378925 ∈ lw_tbl := tw_7 (List.mem_of_getElem? (i := 223) rfl)
theorem c_M_108 : Jvm.Cond.constantLong "PageScribeModel" 108 13019780657223043 ∈ lw_tbl := tw_7 (List.mem_of_getElem? (i := 224) rfl)
theorem c_M_110 : Jvm.Cond.constantLong "PageScribeModel" 110 4225 ∈ lw_tbl := tw_7 (List.mem_of_getElem? (i := 225) rfl)
theorem c_M_112 : Jvm.Cond.constantLong "PageScribeModel" 112 2739 ∈ lw_tbl := tw_7 (List.mem_of_getElem? (i := 226) rfl)
theorem c_M_114 : Jvm.Cond.constantLong "PageScribeModel" 114 12973 ∈ lw_tbl := tw_7 (List.mem_of_getElem? (i := 227) rfl)
theorem c_M_116 : Jvm.Cond.constantLong "PageScribeModel" 116 22820 ∈ lw_tbl := tw_7 (List.mem_of_getElem? (i := 228) rfl)
theorem c_M_118 : Jvm.Cond.constantLong "PageScribeModel" 118 730249 ∈ lw_tbl := tw_7 (List.mem_of_getElem? (i := 229) rfl)
theorem c_M_120 : Jvm.Cond.constantLong "PageScribeModel" 120 4589 ∈ lw_tbl := tw_7 (List.mem_of_getElem? (i := 230) rfl)
theorem c_M_122 : Jvm.Cond.constantLong "PageScribeModel" 122 7342 ∈ lw_tbl := tw_7 (List.mem_of_getElem? (i := 231) rfl)
theorem c_M_124 : Jvm.Cond.constantLong "PageScribeModel" 124 19381638 ∈ lw_tbl := tw_7 (List.mem_of_getElem? (i := 232) rfl)
theorem c_M_126 : Jvm.Cond.constantLong "PageScribeModel" 126 4675058 ∈ lw_tbl := tw_7 (List.mem_of_getElem? (i := 233) rfl)
theorem c_M_128 : Jvm.Cond.constantLong "PageScribeModel" 128 9923 ∈ lw_tbl := tw_7 (List.mem_of_getElem? (i := 234) rfl)
theorem c_M_130 : Jvm.Cond.constantLong "PageScribeModel" 130 19139 ∈ lw_tbl := tw_7 (List.mem_of_getElem? (i := 235) rfl)
theorem c_M_132 : Jvm.Cond.constantLong "PageScribeModel" 132 185940 ∈ lw_tbl := tw_7 (List.mem_of_getElem? (i := 236) rfl)
theorem c_M_134 : Jvm.Cond.constantLong "PageScribeModel" 134 5877798 ∈ lw_tbl := tw_7 (List.mem_of_getElem? (i := 237) rfl)
theorem c_M_136 : Jvm.Cond.constantLong "PageScribeModel" 136 549 ∈ lw_tbl := tw_7 (List.mem_of_getElem? (i := 238) rfl)
theorem c_M_138 : Jvm.Cond.constantLong "PageScribeModel" 138 174 ∈ lw_tbl := tw_7 (List.mem_of_getElem? (i := 239) rfl)
theorem c_M_140 : Jvm.Cond.constantLong "PageScribeModel" 140 647 ∈ lw_tbl := tw_8 (List.mem_of_getElem? (i := 0) rfl)
theorem c_M_142 : Jvm.Cond.constantLong "PageScribeModel" 142 167 ∈ lw_tbl := tw_8 (List.mem_of_getElem? (i := 1) rfl)
theorem c_M_144 : Jvm.Cond.constantLong "PageScribeModel" 144 652 ∈ lw_tbl := tw_8 (List.mem_of_getElem? (i := 2) rfl)
theorem c_M_146 : Jvm.Cond.constantLong "PageScribeModel" 146 172 ∈ lw_tbl := tw_8 (List.mem_of_getElem? (i := 3) rfl)
theorem c_M_148 : Jvm.Cond.constantLong "PageScribeModel" 148 4545 ∈ lw_tbl := tw_8 (List.mem_of_getElem? (i := 4) rfl)
theorem c_M_150 : Jvm.Cond.constantLong "PageScribeModel" 150 591 ∈ lw_tbl := tw_8 (List.mem_of_getElem? (i := 5) rfl)
theorem c_M_152 : Jvm.Cond.constantLong "PageScribeModel" 152 20974 ∈ lw_tbl := tw_8 (List.mem_of_getElem? (i := 6) rfl)
theorem c_M_154 : Jvm.Cond.constantLong "PageScribeModel" 154 693948240162 ∈ lw_tbl := tw_8 (List.mem_of_getElem? (i := 7) rfl)
theorem c_M_156 : Jvm.Cond.constantLong "PageScribeModel" 156 25283 ∈ lw_tbl := tw_8 (List.mem_of_getElem? (i := 8) rfl)
theorem c_M_158 : Jvm.Cond.constantLong "PageScribeModel" 158 21279427 ∈ lw_tbl := tw_8 (List.mem_of_getElem? (i := 9) rfl)
theorem fp_1_43 : xFp 1 43 true := ⟨_, rfl, by decide, tw_8 (List.mem_of_getElem? (i := 176) rfl), by rfl, rfl⟩
theorem fo_M_160 : ∃ q : vw_C, xCl[1]? = some q ∧ (q.2.1 43).1 = "PageScribeModel" ∧ Cond.fieldLink "PageScribeModel" 160 "PageScribeModel" (q.2.1 43).2.1 (q.2.1 43).2.2.1 ∈ lw_tbl := ⟨_, rfl, rfl, tw_8 (List.mem_of_getElem? (i := 88) rfl)⟩
theorem c_M_163 : Jvm.Cond.constantLong "PageScribeModel" 163 372416632 ∈ lw_tbl := tw_8 (List.mem_of_getElem? (i := 10) rfl)
theorem c_M_165 : Jvm.Cond.constantLong "PageScribeModel" 165 145707 ∈ lw_tbl := tw_8 (List.mem_of_getElem? (i := 11) rfl)
theorem c_M_167 : Jvm.Cond.constantLong "PageScribeModel" 167 26266177 ∈ lw_tbl := tw_8 (List.mem_of_getElem? (i := 12) rfl)
theorem c_M_169 : Jvm.Cond.constantLong "PageScribeModel" 169 289650860 ∈ lw_tbl := tw_8 (List.mem_of_getElem? (i := 13) rfl)
theorem c_M_171 : Jvm.Cond.constantLong "PageScribeModel" 171 20647 ∈ lw_tbl := tw_8 (List.mem_of_getElem? (i := 14) rfl)
theorem c_M_173 : Jvm.Cond.constantLong "PageScribeModel" 173 21168 ∈ lw_tbl := tw_8 (List.mem_of_getElem? (i := 15) rfl)
theorem c_M_175 : Jvm.Cond.constantLong "PageScribeModel" 175 13570797040095399 ∈ lw_tbl := tw_8 (List.mem_of_getElem? (i := 16) rfl)
theorem c_M_177 : Jvm.Cond.constantLong "PageScribeModel" 177 4242817 ∈ lw_tbl := tw_8 (List.mem_of_getElem? (i := 17) rfl)
theorem c_M_179 : Jvm.Cond.constantLong "PageScribeModel" 179 658724 ∈ lw_tbl := tw_8 (List.mem_of_getElem? (i := 18) rfl)
theorem c_M_181 : Jvm.Cond.constantLong "PageScribeModel" 181 14982306 ∈ lw_tbl := tw_8 (List.mem_of_getElem? (i := 19) rfl)
theorem c_M_183 : Jvm.Cond.constantLong "PageScribeModel" 183 4549 ∈ lw_tbl := tw_8 (List.mem_of_getElem? (i := 20) rfl)
theorem c_M_185 : Jvm.Cond.constantLong "PageScribeModel" 185 6308 ∈ lw_tbl := tw_8 (List.mem_of_getElem? (i := 21) rfl)
theorem c_M_187 : Jvm.Cond.constantLong "PageScribeModel" 187 132588 ∈ lw_tbl := tw_8 (List.mem_of_getElem? (i := 22) rfl)
theorem c_M_189 : Jvm.Cond.constantLong "PageScribeModel" 189 15449547 ∈ lw_tbl := tw_8 (List.mem_of_getElem? (i := 23) rfl)
theorem c_M_191 : Jvm.Cond.constantLong "PageScribeModel" 191 22633606247172771 ∈ lw_tbl := tw_8 (List.mem_of_getElem? (i := 24) rfl)
theorem c_M_193 : Jvm.Cond.constantLong "PageScribeModel" 193 104197 ∈ lw_tbl := tw_8 (List.mem_of_getElem? (i := 25) rfl)
theorem c_M_195 : Jvm.Cond.constantLong "PageScribeModel" 195 201 ∈ lw_tbl := tw_8 (List.mem_of_getElem? (i := 26) rfl)
theorem c_M_197 : Jvm.Cond.constantLong "PageScribeModel" 197 188093641 ∈ lw_tbl := tw_8 (List.mem_of_getElem? (i := 27) rfl)
theorem c_M_199 : Jvm.Cond.constantLong "PageScribeModel" 199 18918 ∈ lw_tbl := tw_8 (List.mem_of_getElem? (i := 28) rfl)
theorem c_M_201 : Jvm.Cond.constantLong "PageScribeModel" 201 672317618 ∈ lw_tbl := tw_8 (List.mem_of_getElem? (i := 29) rfl)
theorem c_M_203 : Jvm.Cond.constantLong "PageScribeModel" 203 540140 ∈ lw_tbl := tw_8 (List.mem_of_getElem? (i := 30) rfl)
theorem c_M_205 : Jvm.Cond.constantLong "PageScribeModel" 205 415287782 ∈ lw_tbl := tw_8 (List.mem_of_getElem? (i := 31) rfl)
theorem c_M_207 : Jvm.Cond.constantLong "PageScribeModel" 207 665349 ∈ lw_tbl := tw_8 (List.mem_of_getElem? (i := 32) rfl)
theorem c_M_209 : Jvm.Cond.constantLong "PageScribeModel" 209 540307 ∈ lw_tbl := tw_8 (List.mem_of_getElem? (i := 33) rfl)
theorem c_M_211 : Jvm.Cond.constantLong "PageScribeModel" 211 4480056979 ∈ lw_tbl := tw_8 (List.mem_of_getElem? (i := 34) rfl)
theorem c_M_213 : Jvm.Cond.constantLong "PageScribeModel" 213 21386278 ∈ lw_tbl := tw_8 (List.mem_of_getElem? (i := 35) rfl)
theorem c_M_215 : Jvm.Cond.constantLong "PageScribeModel" 215 186419 ∈ lw_tbl := tw_8 (List.mem_of_getElem? (i := 36) rfl)
theorem c_M_217 : Jvm.Cond.constantLong "PageScribeModel" 217 5989092530 ∈ lw_tbl := tw_8 (List.mem_of_getElem? (i := 37) rfl)
theorem c_M_219 : Jvm.Cond.constantLong "PageScribeModel" 219 26896224435 ∈ lw_tbl := tw_8 (List.mem_of_getElem? (i := 38) rfl)
theorem c_M_221 : Jvm.Cond.constantLong "PageScribeModel" 221 9262619822 ∈ lw_tbl := tw_8 (List.mem_of_getElem? (i := 39) rfl)
theorem c_M_223 : Jvm.Cond.constantLong "PageScribeModel" 223 524474861 ∈ lw_tbl := tw_8 (List.mem_of_getElem? (i := 40) rfl)
theorem c_M_225 : Jvm.Cond.constantLong "PageScribeModel" 225 524466476 ∈ lw_tbl := tw_8 (List.mem_of_getElem? (i := 41) rfl)
theorem c_M_227 : Jvm.Cond.constantLong "PageScribeModel" 227 9484904283523 ∈ lw_tbl := tw_8 (List.mem_of_getElem? (i := 42) rfl)
theorem c_M_229 : Jvm.Cond.constantLong "PageScribeModel" 229 405798 ∈ lw_tbl := tw_8 (List.mem_of_getElem? (i := 43) rfl)
theorem c_M_231 : Jvm.Cond.constantLong "PageScribeModel" 231 415537637 ∈ lw_tbl := tw_8 (List.mem_of_getElem? (i := 44) rfl)
theorem fp_1_44 : xFp 1 44 true := ⟨_, rfl, by decide, tw_8 (List.mem_of_getElem? (i := 178) rfl), by rfl, rfl⟩
theorem fo_M_233 : ∃ q : vw_C, xCl[1]? = some q ∧ (q.2.1 44).1 = "PageScribeModel" ∧ Cond.fieldLink "PageScribeModel" 233 "PageScribeModel" (q.2.1 44).2.1 (q.2.1 44).2.2.1 ∈ lw_tbl := ⟨_, rfl, rfl, tw_8 (List.mem_of_getElem? (i := 89) rfl)⟩
theorem fp_1_34 : xFp 1 34 true := ⟨_, rfl, by decide, tw_8 (List.mem_of_getElem? (i := 158) rfl), by rfl, rfl⟩
theorem fo_M_236 : ∃ q : vw_C, xCl[1]? = some q ∧ (q.2.1 34).1 = "PageScribeModel" ∧ Cond.fieldLink "PageScribeModel" 236 "PageScribeModel" (q.2.1 34).2.1 (q.2.1 34).2.2.1 ∈ lw_tbl := ⟨_, rfl, rfl, tw_8 (List.mem_of_getElem? (i := 79) rfl)⟩
theorem fp_1_35 : xFp 1 35 true := ⟨_, rfl, by decide, tw_8 (List.mem_of_getElem? (i := 160) rfl), by rfl, rfl⟩
theorem fo_M_239 : ∃ q : vw_C, xCl[1]? = some q ∧ (q.2.1 35).1 = "PageScribeModel" ∧ Cond.fieldLink "PageScribeModel" 239 "PageScribeModel" (q.2.1 35).2.1 (q.2.1 35).2.2.1 ∈ lw_tbl := ⟨_, rfl, rfl, tw_8 (List.mem_of_getElem? (i := 80) rfl)⟩
theorem nw_W_8 : xNw "PageScribeLaw" 8 0 40 := ⟨_, rfl, tw_1 (List.mem_of_getElem? (i := 46) rfl), tw_1 (List.mem_of_getElem? (i := 47) rfl), tw_1 (List.mem_of_getElem? (i := 1) rfl)⟩
theorem ly_0 : xLy 0 := ⟨_, rfl, fun k h => match k, h with | 0, _ => ⟨tw_3 (List.mem_of_getElem? (i := 184) rfl), rfl⟩ | 1, _ => ⟨tw_3 (List.mem_of_getElem? (i := 186) rfl), rfl⟩ | 2, _ => ⟨tw_3 (List.mem_of_getElem? (i := 188) rfl), rfl⟩ | 3, _ => ⟨tw_3 (List.mem_of_getElem? (i := 190) rfl), rfl⟩ | 4, _ => ⟨tw_3 (List.mem_of_getElem? (i := 192) rfl), rfl⟩ | 5, _ => ⟨tw_3 (List.mem_of_getElem? (i := 194) rfl), rfl⟩ | 6, _ => ⟨tw_3 (List.mem_of_getElem? (i := 196) rfl), rfl⟩ | 7, _ => ⟨tw_3 (List.mem_of_getElem? (i := 198) rfl), rfl⟩ | 8, _ => ⟨tw_3 (List.mem_of_getElem? (i := 200) rfl), rfl⟩ | 9, _ => ⟨tw_3 (List.mem_of_getElem? (i := 202) rfl), rfl⟩ | 10, _ => ⟨tw_3 (List.mem_of_getElem? (i := 204) rfl), rfl⟩ | 11, _ => ⟨tw_3 (List.mem_of_getElem? (i := 206) rfl), rfl⟩ | 12, _ => ⟨tw_3 (List.mem_of_getElem? (i := 208) rfl), rfl⟩ | 13, _ => ⟨tw_3 (List.mem_of_getElem? (i := 210) rfl), rfl⟩ | 14, _ => ⟨tw_3 (List.mem_of_getElem? (i := 212) rfl), rfl⟩ | 15, _ => ⟨tw_3 (List.mem_of_getElem? (i := 214) rfl), rfl⟩ | 16, _ => ⟨tw_3 (List.mem_of_getElem? (i := 216) rfl), rfl⟩ | 17, _ => ⟨tw_3 (List.mem_of_getElem? (i := 218) rfl), rfl⟩ | 18, _ => ⟨tw_3 (List.mem_of_getElem? (i := 220) rfl), rfl⟩ | 19, _ => ⟨tw_3 (List.mem_of_getElem? (i := 222) rfl), rfl⟩ | 20, _ => ⟨tw_3 (List.mem_of_getElem? (i := 224) rfl), rfl⟩ | 21, _ => ⟨tw_3 (List.mem_of_getElem? (i := 226) rfl), rfl⟩ | 22, _ => ⟨tw_3 (List.mem_of_getElem? (i := 228) rfl), rfl⟩ | 23, _ => ⟨tw_3 (List.mem_of_getElem? (i := 230) rfl), rfl⟩ | 24, _ => ⟨tw_3 (List.mem_of_getElem? (i := 232) rfl), rfl⟩ | 25, _ => ⟨tw_3 (List.mem_of_getElem? (i := 234) rfl), rfl⟩ | 26, _ => ⟨tw_3 (List.mem_of_getElem? (i := 236) rfl), rfl⟩ | 27, _ => ⟨tw_3 (List.mem_of_getElem? (i := 238) rfl), rfl⟩ | 28, _ => ⟨tw_4 (List.mem_of_getElem? (i := 0) rfl), rfl⟩ | 29, _ => ⟨tw_4 (List.mem_of_getElem? (i := 2) rfl), rfl⟩ | 30, _ => ⟨tw_4 (List.mem_of_getElem? (i := 4) rfl), rfl⟩ | 31, _ => ⟨tw_4 (List.mem_of_getElem? (i := 6) rfl), rfl⟩ | 32, _ => ⟨tw_4 (List.mem_of_getElem? (i := 8) rfl), rfl⟩ | 33, _ => ⟨tw_4 (List.mem_of_getElem? (i := 10) rfl), rfl⟩ | 34, _ => ⟨tw_4 (List.mem_of_getElem? (i := 12) rfl), rfl⟩ | 35, _ => ⟨tw_4 (List.mem_of_getElem? (i := 14) rfl), rfl⟩ | 36, _ => ⟨tw_4 (List.mem_of_getElem? (i := 16) rfl), rfl⟩ | 37, _ => ⟨tw_4 (List.mem_of_getElem? (i := 18) rfl), rfl⟩ | 38, _ => ⟨tw_4 (List.mem_of_getElem? (i := 20) rfl), rfl⟩ | 39, _ => ⟨tw_4 (List.mem_of_getElem? (i := 22) rfl), rfl⟩ | k + 40, h => absurd h (by show ¬ k + 40 < 40; omega)⟩
theorem cs_W_29 : xCt "PageScribeLaw" 29 ⟨"PageScribeLaw", "cell", "([II)I"⟩ 2 := ⟨⟨by decide +kernel, by decide +kernel⟩, xpar_of (by decide +kernel), tw_5 (List.mem_of_getElem? (i := 16) rfl), tw_1 (List.mem_of_getElem? (i := 0) rfl), Or.inl (tw_5 (List.mem_of_getElem? (i := 15) rfl))⟩
theorem y_W_cell : xY ⟨"PageScribeLaw", "cell", "([II)I"⟩ m_W_cell := ⟨rfl, rfl, by decide +kernel, Or.inl ⟨rfl, tw_5 (List.mem_of_getElem? (i := 17) rfl)⟩⟩
theorem ci_W_35 : xCi "PageScribeLaw" 35 ⟨"PageScribe", "<init>", "(II)V"⟩ 2 := ⟨rfl, ⟨by decide +kernel, by decide +kernel⟩, xpar_of (by decide +kernel), tw_1 (List.mem_of_getElem? (i := 49) rfl), Or.inl (tw_1 (List.mem_of_getElem? (i := 48) rfl))⟩
theorem y_P_init : xY ⟨"PageScribe", "<init>", "(II)V"⟩ m_P_init := ⟨rfl, rfl, by decide +kernel, Or.inl ⟨rfl, tw_1 (List.mem_of_getElem? (i := 50) rfl)⟩⟩
theorem nw_W_38 : xNw "PageScribeLaw" 38 1 45 := ⟨_, rfl, tw_7 (List.mem_of_getElem? (i := 209) rfl), tw_7 (List.mem_of_getElem? (i := 210) rfl), tw_1 (List.mem_of_getElem? (i := 31) rfl)⟩
theorem ly_1 : xLy 1 := ⟨_, rfl, fun k h => match k, h with | 0, _ => ⟨tw_8 (List.mem_of_getElem? (i := 90) rfl), rfl⟩ | 1, _ => ⟨tw_8 (List.mem_of_getElem? (i := 92) rfl), rfl⟩ | 2, _ => ⟨tw_8 (List.mem_of_getElem? (i := 94) rfl), rfl⟩ | 3, _ => ⟨tw_8 (List.mem_of_getElem? (i := 96) rfl), rfl⟩ | 4, _ => ⟨tw_8 (List.mem_of_getElem? (i := 98) rfl), rfl⟩ | 5, _ => ⟨tw_8 (List.mem_of_getElem? (i := 100) rfl), rfl⟩ | 6, _ => ⟨tw_8 (List.mem_of_getElem? (i := 102) rfl), rfl⟩ | 7, _ => ⟨tw_8 (List.mem_of_getElem? (i := 104) rfl), rfl⟩ | 8, _ => ⟨tw_8 (List.mem_of_getElem? (i := 106) rfl), rfl⟩ | 9, _ => ⟨tw_8 (List.mem_of_getElem? (i := 108) rfl), rfl⟩ | 10, _ => ⟨tw_8 (List.mem_of_getElem? (i := 110) rfl), rfl⟩ | 11, _ => ⟨tw_8 (List.mem_of_getElem? (i := 112) rfl), rfl⟩ | 12, _ => ⟨tw_8 (List.mem_of_getElem? (i := 114) rfl), rfl⟩ | 13, _ => ⟨tw_8 (List.mem_of_getElem? (i := 116) rfl), rfl⟩ | 14, _ => ⟨tw_8 (List.mem_of_getElem? (i := 118) rfl), rfl⟩ | 15, _ => ⟨tw_8 (List.mem_of_getElem? (i := 120) rfl), rfl⟩ | 16, _ => ⟨tw_8 (List.mem_of_getElem? (i := 122) rfl), rfl⟩ | 17, _ => ⟨tw_8 (List.mem_of_getElem? (i := 124) rfl), rfl⟩ | 18, _ => ⟨tw_8 (List.mem_of_getElem? (i := 126) rfl), rfl⟩ | 19, _ => ⟨tw_8 (List.mem_of_getElem? (i := 128) rfl), rfl⟩ | 20, _ => ⟨tw_8 (List.mem_of_getElem? (i := 130) rfl), rfl⟩ | 21, _ => ⟨tw_8 (List.mem_of_getElem? (i := 132) rfl), rfl⟩ | 22, _ => ⟨tw_8 (List.mem_of_getElem? (i := 134) rfl), rfl⟩ | 23, _ => ⟨tw_8 (List.mem_of_getElem? (i := 136) rfl), rfl⟩ | 24, _ => ⟨tw_8 (List.mem_of_getElem? (i := 138) rfl), rfl⟩ | 25, _ => ⟨tw_8 (List.mem_of_getElem? (i := 140) rfl), rfl⟩ | 26, _ => ⟨tw_8 (List.mem_of_getElem? (i := 142) rfl), rfl⟩ | 27, _ => ⟨tw_8 (List.mem_of_getElem? (i := 144) rfl), rfl⟩ | 28, _ => ⟨tw_8 (List.mem_of_getElem? (i := 146) rfl), rfl⟩ | 29, _ => ⟨tw_8 (List.mem_of_getElem? (i := 148) rfl), rfl⟩ | 30, _ => ⟨tw_8 (List.mem_of_getElem? (i := 150) rfl), rfl⟩ | 31, _ => ⟨tw_8 (List.mem_of_getElem? (i := 152) rfl), rfl⟩ | 32, _ => ⟨tw_8 (List.mem_of_getElem? (i := 154) rfl), rfl⟩ | 33, _ => ⟨tw_8 (List.mem_of_getElem? (i := 156) rfl), rfl⟩ | 34, _ => ⟨tw_8 (List.mem_of_getElem? (i := 158) rfl), rfl⟩ | 35, _ => ⟨tw_8 (List.mem_of_getElem? (i := 160) rfl), rfl⟩ | 36, _ => ⟨tw_8 (List.mem_of_getElem? (i := 162) rfl), rfl⟩ | 37, _ => ⟨tw_8 (List.mem_of_getElem? (i := 164) rfl), rfl⟩ | 38, _ => ⟨tw_8 (List.mem_of_getElem? (i := 166) rfl), rfl⟩ | 39, _ => ⟨tw_8 (List.mem_of_getElem? (i := 168) rfl), rfl⟩ | 40, _ => ⟨tw_8 (List.mem_of_getElem? (i := 170) rfl), rfl⟩ | 41, _ => ⟨tw_8 (List.mem_of_getElem? (i := 172) rfl), rfl⟩ | 42, _ => ⟨tw_8 (List.mem_of_getElem? (i := 174) rfl), rfl⟩ | 43, _ => ⟨tw_8 (List.mem_of_getElem? (i := 176) rfl), rfl⟩ | 44, _ => ⟨tw_8 (List.mem_of_getElem? (i := 178) rfl), rfl⟩ | k + 45, h => absurd h (by show ¬ k + 45 < 45; omega)⟩
theorem ci_W_40 : xCi "PageScribeLaw" 40 ⟨"PageScribeModel", "<init>", "(II)V"⟩ 2 := ⟨rfl, ⟨by decide +kernel, by decide +kernel⟩, xpar_of (by decide +kernel), tw_7 (List.mem_of_getElem? (i := 212) rfl), Or.inl (tw_7 (List.mem_of_getElem? (i := 211) rfl))⟩
theorem y_M_init : xY ⟨"PageScribeModel", "<init>", "(II)V"⟩ m_M_init := ⟨rfl, rfl, by decide +kernel, Or.inl ⟨rfl, tw_7 (List.mem_of_getElem? (i := 213) rfl)⟩⟩
theorem c_W_41 : Jvm.Cond.constantLong "PageScribeLaw" 41 4294967295 ∈ lw_tbl := tw_10 (List.mem_of_getElem? (i := 59) rfl)
theorem cv_W_43 : xCv "PageScribeLaw" 43 0 ⟨"PageScribe", "write", "(J)Z"⟩ 1 := ⟨⟨by decide +kernel, by decide +kernel⟩, xpar_of (by decide +kernel), tw_4 (List.mem_of_getElem? (i := 26) rfl), ⟨_, rfl, tw_4 (List.mem_of_getElem? (i := 27) rfl)⟩, Or.inl (tw_4 (List.mem_of_getElem? (i := 25) rfl))⟩
theorem y_P_write : xY ⟨"PageScribe", "write", "(J)Z"⟩ m_P_write := ⟨rfl, rfl, by decide +kernel, Or.inl ⟨rfl, tw_4 (List.mem_of_getElem? (i := 28) rfl)⟩⟩
theorem cv_W_47 : xCv "PageScribeLaw" 47 1 ⟨"PageScribeModel", "write", "(J)Z"⟩ 1 := ⟨⟨by decide +kernel, by decide +kernel⟩, xpar_of (by decide +kernel), tw_10 (List.mem_of_getElem? (i := 8) rfl), ⟨_, rfl, tw_10 (List.mem_of_getElem? (i := 9) rfl)⟩, Or.inl (tw_10 (List.mem_of_getElem? (i := 7) rfl))⟩
theorem y_M_write : xY ⟨"PageScribeModel", "write", "(J)Z"⟩ m_M_write := ⟨rfl, rfl, by decide +kernel, Or.inl ⟨rfl, tw_10 (List.mem_of_getElem? (i := 10) rfl)⟩⟩
theorem cs_W_48 : xCt "PageScribeLaw" 48 ⟨"PageScribeLaw", "run", "(LPageScribe;I[J)I"⟩ 3 := ⟨⟨by decide +kernel, by decide +kernel⟩, xpar_of (by decide +kernel), tw_5 (List.mem_of_getElem? (i := 19) rfl), tw_1 (List.mem_of_getElem? (i := 0) rfl), Or.inl (tw_5 (List.mem_of_getElem? (i := 18) rfl))⟩
theorem y_W_run : xY ⟨"PageScribeLaw", "run", "(LPageScribe;I[J)I"⟩ m_W_run := ⟨rfl, rfl, by decide +kernel, Or.inr (tw_5 (List.mem_of_getElem? (i := 20) rfl))⟩
theorem cv_W_51 : xCv "PageScribeLaw" 51 1 ⟨"PageScribeModel", "run", "(I)I"⟩ 1 := ⟨⟨by decide +kernel, by decide +kernel⟩, xpar_of (by decide +kernel), tw_8 (List.mem_of_getElem? (i := 188) rfl), ⟨_, rfl, tw_8 (List.mem_of_getElem? (i := 189) rfl)⟩, Or.inl (tw_8 (List.mem_of_getElem? (i := 187) rfl))⟩
theorem y_M_run : xY ⟨"PageScribeModel", "run", "(I)I"⟩ m_M_run := ⟨rfl, rfl, by decide +kernel, Or.inl ⟨rfl, tw_8 (List.mem_of_getElem? (i := 190) rfl)⟩⟩
theorem cv_W_52 : xCv "PageScribeLaw" 52 1 ⟨"PageScribeModel", "thrown", "()I"⟩ 0 := ⟨⟨by decide +kernel, by decide +kernel⟩, xpar_of (by decide +kernel), tw_8 (List.mem_of_getElem? (i := 184) rfl), ⟨_, rfl, tw_8 (List.mem_of_getElem? (i := 185) rfl)⟩, Or.inl (tw_8 (List.mem_of_getElem? (i := 183) rfl))⟩
theorem y_M_thrown : xY ⟨"PageScribeModel", "thrown", "()I"⟩ m_M_thrown := ⟨rfl, rfl, by decide +kernel, Or.inl ⟨rfl, tw_8 (List.mem_of_getElem? (i := 186) rfl)⟩⟩
theorem cv_W_56 : xCv "PageScribeLaw" 56 0 ⟨"PageScribe", "steps", "()I"⟩ 0 := ⟨⟨by decide +kernel, by decide +kernel⟩, xpar_of (by decide +kernel), tw_4 (List.mem_of_getElem? (i := 112) rfl), ⟨_, rfl, tw_4 (List.mem_of_getElem? (i := 113) rfl)⟩, Or.inl (tw_4 (List.mem_of_getElem? (i := 111) rfl))⟩
theorem y_P_steps : xY ⟨"PageScribe", "steps", "()I"⟩ m_P_steps := ⟨rfl, rfl, by decide +kernel, Or.inl ⟨rfl, tw_4 (List.mem_of_getElem? (i := 114) rfl)⟩⟩
theorem cv_W_59 : xCv "PageScribeLaw" 59 1 ⟨"PageScribeModel", "steps", "()I"⟩ 0 := ⟨⟨by decide +kernel, by decide +kernel⟩, xpar_of (by decide +kernel), tw_10 (List.mem_of_getElem? (i := 13) rfl), ⟨_, rfl, tw_10 (List.mem_of_getElem? (i := 14) rfl)⟩, Or.inl (tw_10 (List.mem_of_getElem? (i := 12) rfl))⟩
theorem y_M_steps : xY ⟨"PageScribeModel", "steps", "()I"⟩ m_M_steps := ⟨rfl, rfl, by decide +kernel, Or.inl ⟨rfl, tw_10 (List.mem_of_getElem? (i := 15) rfl)⟩⟩
theorem cv_W_60 : xCv "PageScribeLaw" 60 0 ⟨"PageScribe", "fault", "()I"⟩ 0 := ⟨⟨by decide +kernel, by decide +kernel⟩, xpar_of (by decide +kernel), tw_4 (List.mem_of_getElem? (i := 116) rfl), ⟨_, rfl, tw_4 (List.mem_of_getElem? (i := 117) rfl)⟩, Or.inl (tw_4 (List.mem_of_getElem? (i := 115) rfl))⟩
theorem y_P_fault : xY ⟨"PageScribe", "fault", "()I"⟩ m_P_fault := ⟨rfl, rfl, by decide +kernel, Or.inl ⟨rfl, tw_4 (List.mem_of_getElem? (i := 118) rfl)⟩⟩
theorem cv_W_63 : xCv "PageScribeLaw" 63 1 ⟨"PageScribeModel", "fault", "()I"⟩ 0 := ⟨⟨by decide +kernel, by decide +kernel⟩, xpar_of (by decide +kernel), tw_10 (List.mem_of_getElem? (i := 17) rfl), ⟨_, rfl, tw_10 (List.mem_of_getElem? (i := 18) rfl)⟩, Or.inl (tw_10 (List.mem_of_getElem? (i := 16) rfl))⟩
theorem y_M_fault : xY ⟨"PageScribeModel", "fault", "()I"⟩ m_M_fault := ⟨rfl, rfl, by decide +kernel, Or.inl ⟨rfl, tw_10 (List.mem_of_getElem? (i := 19) rfl)⟩⟩
theorem c_W_64 : Jvm.Cond.constantDouble "PageScribeLaw" 64 4593671619917905920 ∈ lw_tbl := tw_10 (List.mem_of_getElem? (i := 60) rfl)
theorem cv_W_66 : xCv "PageScribeLaw" 66 0 ⟨"PageScribe", "feed", "(D)Z"⟩ 1 := ⟨⟨by decide +kernel, by decide +kernel⟩, xpar_of (by decide +kernel), tw_4 (List.mem_of_getElem? (i := 120) rfl), ⟨_, rfl, tw_4 (List.mem_of_getElem? (i := 121) rfl)⟩, Or.inl (tw_4 (List.mem_of_getElem? (i := 119) rfl))⟩
theorem y_P_feed : xY ⟨"PageScribe", "feed", "(D)Z"⟩ m_P_feed := ⟨rfl, rfl, by decide +kernel, Or.inl ⟨rfl, tw_4 (List.mem_of_getElem? (i := 122) rfl)⟩⟩
theorem cv_W_70 : xCv "PageScribeLaw" 70 1 ⟨"PageScribeModel", "feed", "(D)Z"⟩ 1 := ⟨⟨by decide +kernel, by decide +kernel⟩, xpar_of (by decide +kernel), tw_10 (List.mem_of_getElem? (i := 21) rfl), ⟨_, rfl, tw_10 (List.mem_of_getElem? (i := 22) rfl)⟩, Or.inl (tw_10 (List.mem_of_getElem? (i := 20) rfl))⟩
theorem y_M_feed : xY ⟨"PageScribeModel", "feed", "(D)Z"⟩ m_M_feed := ⟨rfl, rfl, by decide +kernel, Or.inl ⟨rfl, tw_10 (List.mem_of_getElem? (i := 23) rfl)⟩⟩
theorem cv_W_71 : xCv "PageScribeLaw" 71 0 ⟨"PageScribe", "depth", "()I"⟩ 0 := ⟨⟨by decide +kernel, by decide +kernel⟩, xpar_of (by decide +kernel), tw_4 (List.mem_of_getElem? (i := 218) rfl), ⟨_, rfl, tw_4 (List.mem_of_getElem? (i := 219) rfl)⟩, Or.inl (tw_4 (List.mem_of_getElem? (i := 217) rfl))⟩
theorem y_P_depth : xY ⟨"PageScribe", "depth", "()I"⟩ m_P_depth := ⟨rfl, rfl, by decide +kernel, Or.inl ⟨rfl, tw_4 (List.mem_of_getElem? (i := 220) rfl)⟩⟩
theorem cv_W_74 : xCv "PageScribeLaw" 74 1 ⟨"PageScribeModel", "depth", "()I"⟩ 0 := ⟨⟨by decide +kernel, by decide +kernel⟩, xpar_of (by decide +kernel), tw_10 (List.mem_of_getElem? (i := 25) rfl), ⟨_, rfl, tw_10 (List.mem_of_getElem? (i := 26) rfl)⟩, Or.inl (tw_10 (List.mem_of_getElem? (i := 24) rfl))⟩
theorem y_M_depth : xY ⟨"PageScribeModel", "depth", "()I"⟩ m_M_depth := ⟨rfl, rfl, by decide +kernel, Or.inl ⟨rfl, tw_10 (List.mem_of_getElem? (i := 27) rfl)⟩⟩
theorem cs_W_75 : xCt "PageScribeLaw" 75 ⟨"PageScribeLaw", "kind", "(LPageScribe;I[J)I"⟩ 3 := ⟨⟨by decide +kernel, by decide +kernel⟩, xpar_of (by decide +kernel), tw_7 (List.mem_of_getElem? (i := 147) rfl), tw_1 (List.mem_of_getElem? (i := 0) rfl), Or.inl (tw_7 (List.mem_of_getElem? (i := 146) rfl))⟩
theorem y_W_kind : xY ⟨"PageScribeLaw", "kind", "(LPageScribe;I[J)I"⟩ m_W_kind := ⟨rfl, rfl, by decide +kernel, Or.inr (tw_7 (List.mem_of_getElem? (i := 148) rfl))⟩
theorem cv_W_77 : xCv "PageScribeLaw" 77 1 ⟨"PageScribeModel", "kind", "(I)I"⟩ 1 := ⟨⟨by decide +kernel, by decide +kernel⟩, xpar_of (by decide +kernel), tw_10 (List.mem_of_getElem? (i := 29) rfl), ⟨_, rfl, tw_10 (List.mem_of_getElem? (i := 30) rfl)⟩, Or.inl (tw_10 (List.mem_of_getElem? (i := 28) rfl))⟩
theorem y_M_kind : xY ⟨"PageScribeModel", "kind", "(I)I"⟩ m_M_kind := ⟨rfl, rfl, by decide +kernel, Or.inl ⟨rfl, tw_10 (List.mem_of_getElem? (i := 31) rfl)⟩⟩
theorem cs_W_78 : xCt "PageScribeLaw" 78 ⟨"PageScribeLaw", "number", "(LPageScribe;I[J)I"⟩ 3 := ⟨⟨by decide +kernel, by decide +kernel⟩, xpar_of (by decide +kernel), tw_7 (List.mem_of_getElem? (i := 177) rfl), tw_1 (List.mem_of_getElem? (i := 0) rfl), Or.inl (tw_7 (List.mem_of_getElem? (i := 176) rfl))⟩
theorem y_W_number : xY ⟨"PageScribeLaw", "number", "(LPageScribe;I[J)I"⟩ m_W_number := ⟨rfl, rfl, by decide +kernel, Or.inr (tw_7 (List.mem_of_getElem? (i := 178) rfl))⟩
theorem cv_W_80 : xCv "PageScribeLaw" 80 1 ⟨"PageScribeModel", "number", "(I)I"⟩ 1 := ⟨⟨by decide +kernel, by decide +kernel⟩, xpar_of (by decide +kernel), tw_10 (List.mem_of_getElem? (i := 33) rfl), ⟨_, rfl, tw_10 (List.mem_of_getElem? (i := 34) rfl)⟩, Or.inl (tw_10 (List.mem_of_getElem? (i := 32) rfl))⟩
theorem y_M_number : xY ⟨"PageScribeModel", "number", "(I)I"⟩ m_M_number := ⟨rfl, rfl, by decide +kernel, Or.inl ⟨rfl, tw_10 (List.mem_of_getElem? (i := 35) rfl)⟩⟩
theorem cs_W_81 : xCt "PageScribeLaw" 81 ⟨"PageScribeLaw", "real", "(LPageScribe;I[D)I"⟩ 3 := ⟨⟨by decide +kernel, by decide +kernel⟩, xpar_of (by decide +kernel), tw_7 (List.mem_of_getElem? (i := 201) rfl), tw_1 (List.mem_of_getElem? (i := 0) rfl), Or.inl (tw_7 (List.mem_of_getElem? (i := 200) rfl))⟩
theorem y_W_real : xY ⟨"PageScribeLaw", "real", "(LPageScribe;I[D)I"⟩ m_W_real := ⟨rfl, rfl, by decide +kernel, Or.inr (tw_7 (List.mem_of_getElem? (i := 202) rfl))⟩
theorem cv_W_84 : xCv "PageScribeLaw" 84 1 ⟨"PageScribeModel", "real", "(I)D"⟩ 1 := ⟨⟨by decide +kernel, by decide +kernel⟩, xpar_of (by decide +kernel), tw_10 (List.mem_of_getElem? (i := 40) rfl), ⟨_, rfl, tw_10 (List.mem_of_getElem? (i := 41) rfl)⟩, Or.inl (tw_10 (List.mem_of_getElem? (i := 39) rfl))⟩
theorem y_M_real : xY ⟨"PageScribeModel", "real", "(I)D"⟩ m_M_real := ⟨rfl, rfl, by decide +kernel, Or.inl ⟨rfl, tw_10 (List.mem_of_getElem? (i := 42) rfl)⟩⟩
theorem cv_W_85 : xCv "PageScribeLaw" 85 0 ⟨"PageScribe", "letter", "(II)I"⟩ 2 := ⟨⟨by decide +kernel, by decide +kernel⟩, xpar_of (by decide +kernel), tw_4 (List.mem_of_getElem? (i := 222) rfl), ⟨_, rfl, tw_4 (List.mem_of_getElem? (i := 223) rfl)⟩, Or.inl (tw_4 (List.mem_of_getElem? (i := 221) rfl))⟩
theorem y_P_letter : xY ⟨"PageScribe", "letter", "(II)I"⟩ m_P_letter := ⟨rfl, rfl, by decide +kernel, Or.inl ⟨rfl, tw_4 (List.mem_of_getElem? (i := 224) rfl)⟩⟩
theorem cv_W_89 : xCv "PageScribeLaw" 89 1 ⟨"PageScribeModel", "letter", "(II)I"⟩ 2 := ⟨⟨by decide +kernel, by decide +kernel⟩, xpar_of (by decide +kernel), tw_10 (List.mem_of_getElem? (i := 44) rfl), ⟨_, rfl, tw_10 (List.mem_of_getElem? (i := 45) rfl)⟩, Or.inl (tw_10 (List.mem_of_getElem? (i := 43) rfl))⟩
theorem y_M_letter : xY ⟨"PageScribeModel", "letter", "(II)I"⟩ m_M_letter := ⟨rfl, rfl, by decide +kernel, Or.inl ⟨rfl, tw_10 (List.mem_of_getElem? (i := 46) rfl)⟩⟩
theorem cv_W_90 : xCv "PageScribeLaw" 90 0 ⟨"PageScribe", "used", "(I)I"⟩ 1 := ⟨⟨by decide +kernel, by decide +kernel⟩, xpar_of (by decide +kernel), tw_5 (List.mem_of_getElem? (i := 0) rfl), ⟨_, rfl, tw_5 (List.mem_of_getElem? (i := 1) rfl)⟩, Or.inl (tw_4 (List.mem_of_getElem? (i := 239) rfl))⟩
theorem y_P_used : xY ⟨"PageScribe", "used", "(I)I"⟩ m_P_used := ⟨rfl, rfl, by decide +kernel, Or.inl ⟨rfl, tw_5 (List.mem_of_getElem? (i := 2) rfl)⟩⟩
theorem cv_W_93 : xCv "PageScribeLaw" 93 1 ⟨"PageScribeModel", "used", "(I)I"⟩ 1 := ⟨⟨by decide +kernel, by decide +kernel⟩, xpar_of (by decide +kernel), tw_10 (List.mem_of_getElem? (i := 48) rfl), ⟨_, rfl, tw_10 (List.mem_of_getElem? (i := 49) rfl)⟩, Or.inl (tw_10 (List.mem_of_getElem? (i := 47) rfl))⟩
theorem y_M_used : xY ⟨"PageScribeModel", "used", "(I)I"⟩ m_M_used := ⟨rfl, rfl, by decide +kernel, Or.inl ⟨rfl, tw_10 (List.mem_of_getElem? (i := 50) rfl)⟩⟩
theorem cv_W_94 : xCv "PageScribeLaw" 94 0 ⟨"PageScribe", "pixel", "(II)I"⟩ 2 := ⟨⟨by decide +kernel, by decide +kernel⟩, xpar_of (by decide +kernel), tw_5 (List.mem_of_getElem? (i := 8) rfl), ⟨_, rfl, tw_5 (List.mem_of_getElem? (i := 9) rfl)⟩, Or.inl (tw_5 (List.mem_of_getElem? (i := 7) rfl))⟩
theorem y_P_pixel : xY ⟨"PageScribe", "pixel", "(II)I"⟩ m_P_pixel := ⟨rfl, rfl, by decide +kernel, Or.inl ⟨rfl, tw_5 (List.mem_of_getElem? (i := 10) rfl)⟩⟩
theorem cv_W_97 : xCv "PageScribeLaw" 97 1 ⟨"PageScribeModel", "pixel", "(II)I"⟩ 2 := ⟨⟨by decide +kernel, by decide +kernel⟩, xpar_of (by decide +kernel), tw_10 (List.mem_of_getElem? (i := 52) rfl), ⟨_, rfl, tw_10 (List.mem_of_getElem? (i := 53) rfl)⟩, Or.inl (tw_10 (List.mem_of_getElem? (i := 51) rfl))⟩
theorem y_M_pixel : xY ⟨"PageScribeModel", "pixel", "(II)I"⟩ m_M_pixel := ⟨rfl, rfl, by decide +kernel, Or.inl ⟨rfl, tw_10 (List.mem_of_getElem? (i := 54) rfl)⟩⟩
theorem cv_W_98 : xCv "PageScribeLaw" 98 0 ⟨"PageScribe", "page", "()I"⟩ 0 := ⟨⟨by decide +kernel, by decide +kernel⟩, xpar_of (by decide +kernel), tw_5 (List.mem_of_getElem? (i := 12) rfl), ⟨_, rfl, tw_5 (List.mem_of_getElem? (i := 13) rfl)⟩, Or.inl (tw_5 (List.mem_of_getElem? (i := 11) rfl))⟩
theorem y_P_page : xY ⟨"PageScribe", "page", "()I"⟩ m_P_page := ⟨rfl, rfl, by decide +kernel, Or.inl ⟨rfl, tw_5 (List.mem_of_getElem? (i := 14) rfl)⟩⟩
theorem cv_W_101 : xCv "PageScribeLaw" 101 1 ⟨"PageScribeModel", "page", "()I"⟩ 0 := ⟨⟨by decide +kernel, by decide +kernel⟩, xpar_of (by decide +kernel), tw_10 (List.mem_of_getElem? (i := 56) rfl), ⟨_, rfl, tw_10 (List.mem_of_getElem? (i := 57) rfl)⟩, Or.inl (tw_10 (List.mem_of_getElem? (i := 55) rfl))⟩
theorem y_M_page : xY ⟨"PageScribeModel", "page", "()I"⟩ m_M_page := ⟨rfl, rfl, by decide +kernel, Or.inl ⟨rfl, tw_10 (List.mem_of_getElem? (i := 58) rfl)⟩⟩
theorem d_M_init_0 : decode m_M_init.2.1 0 = .ok (.aload_n 0, 1) := by decide +kernel
theorem d_M_init_1 : decode m_M_init.2.1 1 = .ok (.invokespecial 1, 3) := by decide +kernel
theorem d_M_init_4 : decode m_M_init.2.1 4 = .ok (.aload_n 0, 1) := by decide +kernel
theorem d_M_init_5 : decode m_M_init.2.1 5 = .ok (.sipush 1300, 3) := by decide +kernel
theorem d_M_init_8 : decode m_M_init.2.1 8 = .ok (.newarray .int, 2) := by decide +kernel
theorem d_M_init_10 : decode m_M_init.2.1 10 = .ok (.putfield 7, 3) := by decide +kernel
theorem d_M_init_13 : decode m_M_init.2.1 13 = .ok (.aload_n 0, 1) := by decide +kernel
theorem d_M_init_14 : decode m_M_init.2.1 14 = .ok (.sipush 1300, 3) := by decide +kernel
theorem d_M_init_17 : decode m_M_init.2.1 17 = .ok (.newarray .long, 2) := by decide +kernel
theorem d_M_init_19 : decode m_M_init.2.1 19 = .ok (.putfield 13, 3) := by decide +kernel
theorem d_M_init_22 : decode m_M_init.2.1 22 = .ok (.aload_n 0, 1) := by decide +kernel
theorem d_M_init_23 : decode m_M_init.2.1 23 = .ok (.sipush 1300, 3) := by decide +kernel
theorem d_M_init_26 : decode m_M_init.2.1 26 = .ok (.newarray .double, 2) := by decide +kernel
theorem d_M_init_28 : decode m_M_init.2.1 28 = .ok (.putfield 17, 3) := by decide +kernel
theorem d_M_init_31 : decode m_M_init.2.1 31 = .ok (.aload_n 0, 1) := by decide +kernel
theorem d_M_init_32 : decode m_M_init.2.1 32 = .ok (.sipush 320, 3) := by decide +kernel
theorem d_M_init_35 : decode m_M_init.2.1 35 = .ok (.newarray .long, 2) := by decide +kernel
theorem d_M_init_37 : decode m_M_init.2.1 37 = .ok (.putfield 21, 3) := by decide +kernel
theorem d_M_init_40 : decode m_M_init.2.1 40 = .ok (.aload_n 0, 1) := by decide +kernel
theorem d_M_init_41 : decode m_M_init.2.1 41 = .ok (.bipush 28, 2) := by decide +kernel
theorem d_M_init_43 : decode m_M_init.2.1 43 = .ok (.newarray .int, 2) := by decide +kernel
theorem d_M_init_45 : decode m_M_init.2.1 45 = .ok (.putfield 24, 3) := by decide +kernel
theorem d_M_init_48 : decode m_M_init.2.1 48 = .ok (.aload_n 0, 1) := by decide +kernel
theorem d_M_init_49 : decode m_M_init.2.1 49 = .ok (.bipush 28, 2) := by decide +kernel
theorem d_M_init_51 : decode m_M_init.2.1 51 = .ok (.newarray .int, 2) := by decide +kernel
theorem d_M_init_53 : decode m_M_init.2.1 53 = .ok (.putfield 27, 3) := by decide +kernel
theorem d_M_init_56 : decode m_M_init.2.1 56 = .ok (.aload_n 0, 1) := by decide +kernel
theorem d_M_init_57 : decode m_M_init.2.1 57 = .ok (.bipush 6, 2) := by decide +kernel
theorem d_M_init_59 : decode m_M_init.2.1 59 = .ok (.newarray .int, 2) := by decide +kernel
theorem d_M_init_61 : decode m_M_init.2.1 61 = .ok (.putfield 30, 3) := by decide +kernel
theorem d_M_init_64 : decode m_M_init.2.1 64 = .ok (.aload_n 0, 1) := by decide +kernel
theorem d_M_init_65 : decode m_M_init.2.1 65 = .ok (.iconst 1, 1) := by decide +kernel
theorem d_M_init_66 : decode m_M_init.2.1 66 = .ok (.putfield 33, 3) := by decide +kernel
theorem d_M_init_69 : decode m_M_init.2.1 69 = .ok (.aload_n 0, 1) := by decide +kernel
theorem d_M_init_70 : decode m_M_init.2.1 70 = .ok (.iconst 3, 1) := by decide +kernel
theorem d_M_init_71 : decode m_M_init.2.1 71 = .ok (.newarray .int, 2) := by decide +kernel
theorem d_M_init_73 : decode m_M_init.2.1 73 = .ok (.putfield 37, 3) := by decide +kernel
theorem d_M_init_76 : decode m_M_init.2.1 76 = .ok (.aload_n 0, 1) := by decide +kernel
theorem d_M_init_77 : decode m_M_init.2.1 77 = .ok (.iconst 3, 1) := by decide +kernel
theorem d_M_init_78 : decode m_M_init.2.1 78 = .ok (.newarray .int, 2) := by decide +kernel
theorem d_M_init_80 : decode m_M_init.2.1 80 = .ok (.putfield 40, 3) := by decide +kernel
theorem d_M_init_83 : decode m_M_init.2.1 83 = .ok (.aload_n 0, 1) := by decide +kernel
theorem d_M_init_84 : decode m_M_init.2.1 84 = .ok (.sipush 560, 3) := by decide +kernel
theorem d_M_init_87 : decode m_M_init.2.1 87 = .ok (.newarray .int, 2) := by decide +kernel
theorem d_M_init_89 : decode m_M_init.2.1 89 = .ok (.putfield 43, 3) := by decide +kernel
theorem d_M_init_92 : decode m_M_init.2.1 92 = .ok (.aload_n 0, 1) := by decide +kernel
theorem d_M_init_93 : decode m_M_init.2.1 93 = .ok (.sipush 560, 3) := by decide +kernel
theorem d_M_init_96 : decode m_M_init.2.1 96 = .ok (.newarray .long, 2) := by decide +kernel
theorem d_M_init_98 : decode m_M_init.2.1 98 = .ok (.putfield 46, 3) := by decide +kernel
theorem d_M_init_101 : decode m_M_init.2.1 101 = .ok (.aload_n 0, 1) := by decide +kernel
theorem d_M_init_102 : decode m_M_init.2.1 102 = .ok (.sipush 560, 3) := by decide +kernel
theorem d_M_init_105 : decode m_M_init.2.1 105 = .ok (.newarray .int, 2) := by decide +kernel
theorem d_M_init_107 : decode m_M_init.2.1 107 = .ok (.putfield 49, 3) := by decide +kernel
theorem d_M_init_110 : decode m_M_init.2.1 110 = .ok (.aload_n 0, 1) := by decide +kernel
theorem d_M_init_111 : decode m_M_init.2.1 111 = .ok (.sipush 560, 3) := by decide +kernel
theorem d_M_init_114 : decode m_M_init.2.1 114 = .ok (.newarray .long, 2) := by decide +kernel
theorem d_M_init_116 : decode m_M_init.2.1 116 = .ok (.putfield 52, 3) := by decide +kernel
theorem d_M_init_119 : decode m_M_init.2.1 119 = .ok (.aload_n 0, 1) := by decide +kernel
theorem d_M_init_120 : decode m_M_init.2.1 120 = .ok (.sipush 560, 3) := by decide +kernel
theorem d_M_init_123 : decode m_M_init.2.1 123 = .ok (.newarray .long, 2) := by decide +kernel
theorem d_M_init_125 : decode m_M_init.2.1 125 = .ok (.putfield 55, 3) := by decide +kernel
theorem d_M_init_128 : decode m_M_init.2.1 128 = .ok (.aload_n 0, 1) := by decide +kernel
theorem d_M_init_129 : decode m_M_init.2.1 129 = .ok (.sipush 560, 3) := by decide +kernel
theorem d_M_init_132 : decode m_M_init.2.1 132 = .ok (.newarray .long, 2) := by decide +kernel
theorem d_M_init_134 : decode m_M_init.2.1 134 = .ok (.putfield 58, 3) := by decide +kernel
theorem d_M_init_137 : decode m_M_init.2.1 137 = .ok (.aload_n 0, 1) := by decide +kernel
theorem d_M_init_138 : decode m_M_init.2.1 138 = .ok (.bipush 120, 2) := by decide +kernel
theorem d_M_init_140 : decode m_M_init.2.1 140 = .ok (.newarray .char, 2) := by decide +kernel
theorem d_M_init_142 : decode m_M_init.2.1 142 = .ok (.putfield 61, 3) := by decide +kernel
theorem d_M_init_145 : decode m_M_init.2.1 145 = .ok (.aload_n 0, 1) := by decide +kernel
theorem d_M_init_146 : decode m_M_init.2.1 146 = .ok (.iconst 4, 1) := by decide +kernel
theorem d_M_init_147 : decode m_M_init.2.1 147 = .ok (.newarray .int, 2) := by decide +kernel
theorem d_M_init_149 : decode m_M_init.2.1 149 = .ok (.putfield 65, 3) := by decide +kernel
theorem d_M_init_152 : decode m_M_init.2.1 152 = .ok (.aload_n 0, 1) := by decide +kernel
theorem d_M_init_153 : decode m_M_init.2.1 153 = .ok (.bipush 40, 2) := by decide +kernel
theorem d_M_init_155 : decode m_M_init.2.1 155 = .ok (.newarray .long, 2) := by decide +kernel
theorem d_M_init_157 : decode m_M_init.2.1 157 = .ok (.putfield 68, 3) := by decide +kernel
theorem d_M_init_160 : decode m_M_init.2.1 160 = .ok (.aload_n 0, 1) := by decide +kernel
theorem d_M_init_161 : decode m_M_init.2.1 161 = .ok (.sipush 384, 3) := by decide +kernel
theorem d_M_init_164 : decode m_M_init.2.1 164 = .ok (.newarray .int, 2) := by decide +kernel
theorem d_M_init_166 : decode m_M_init.2.1 166 = .ok (.putfield 71, 3) := by decide +kernel
theorem d_M_init_169 : decode m_M_init.2.1 169 = .ok (.aload_n 0, 1) := by decide +kernel
theorem d_M_init_170 : decode m_M_init.2.1 170 = .ok (.fconst 1, 1) := by decide +kernel
theorem d_M_init_171 : decode m_M_init.2.1 171 = .ok (.putfield 74, 3) := by decide +kernel
theorem d_M_init_174 : decode m_M_init.2.1 174 = .ok (.aload_n 0, 1) := by decide +kernel
theorem d_M_init_175 : decode m_M_init.2.1 175 = .ok (.bipush 30, 2) := by decide +kernel
theorem d_M_init_177 : decode m_M_init.2.1 177 = .ok (.newarray .double, 2) := by decide +kernel
theorem d_M_init_179 : decode m_M_init.2.1 179 = .ok (.putfield 78, 3) := by decide +kernel
theorem d_M_init_182 : decode m_M_init.2.1 182 = .ok (.aload_n 0, 1) := by decide +kernel
theorem d_M_init_183 : decode m_M_init.2.1 183 = .ok (.bipush 30, 2) := by decide +kernel
theorem d_M_init_185 : decode m_M_init.2.1 185 = .ok (.newarray .double, 2) := by decide +kernel
theorem d_M_init_187 : decode m_M_init.2.1 187 = .ok (.putfield 81, 3) := by decide +kernel
theorem d_M_init_190 : decode m_M_init.2.1 190 = .ok (.aload_n 0, 1) := by decide +kernel
theorem d_M_init_191 : decode m_M_init.2.1 191 = .ok (.bipush 30, 2) := by decide +kernel
theorem d_M_init_193 : decode m_M_init.2.1 193 = .ok (.newarray .int, 2) := by decide +kernel
theorem d_M_init_195 : decode m_M_init.2.1 195 = .ok (.putfield 84, 3) := by decide +kernel
theorem d_M_init_198 : decode m_M_init.2.1 198 = .ok (.aload_n 0, 1) := by decide +kernel
theorem d_M_init_199 : decode m_M_init.2.1 199 = .ok (.bipush 33, 2) := by decide +kernel
theorem d_M_init_201 : decode m_M_init.2.1 201 = .ok (.newarray .int, 2) := by decide +kernel
theorem d_M_init_203 : decode m_M_init.2.1 203 = .ok (.dup, 1) := by decide +kernel
theorem d_M_init_204 : decode m_M_init.2.1 204 = .ok (.iconst 0, 1) := by decide +kernel
theorem d_M_init_205 : decode m_M_init.2.1 205 = .ok (.iconst 1, 1) := by decide +kernel
theorem d_M_init_206 : decode m_M_init.2.1 206 = .ok (.iastore, 1) := by decide +kernel
theorem d_M_init_207 : decode m_M_init.2.1 207 = .ok (.dup, 1) := by decide +kernel
theorem d_M_init_208 : decode m_M_init.2.1 208 = .ok (.iconst 1, 1) := by decide +kernel
theorem d_M_init_209 : decode m_M_init.2.1 209 = .ok (.bipush 9, 2) := by decide +kernel
theorem d_M_init_211 : decode m_M_init.2.1 211 = .ok (.iastore, 1) := by decide +kernel
theorem d_M_init_212 : decode m_M_init.2.1 212 = .ok (.dup, 1) := by decide +kernel
theorem d_M_init_213 : decode m_M_init.2.1 213 = .ok (.iconst 2, 1) := by decide +kernel
theorem d_M_init_214 : decode m_M_init.2.1 214 = .ok (.bipush 99, 2) := by decide +kernel
theorem d_M_init_216 : decode m_M_init.2.1 216 = .ok (.iastore, 1) := by decide +kernel
theorem d_M_init_217 : decode m_M_init.2.1 217 = .ok (.dup, 1) := by decide +kernel
theorem d_M_init_218 : decode m_M_init.2.1 218 = .ok (.iconst 3, 1) := by decide +kernel
theorem d_M_init_219 : decode m_M_init.2.1 219 = .ok (.sipush 999, 3) := by decide +kernel
theorem d_M_init_222 : decode m_M_init.2.1 222 = .ok (.iastore, 1) := by decide +kernel
theorem d_M_init_223 : decode m_M_init.2.1 223 = .ok (.dup, 1) := by decide +kernel
theorem d_M_init_224 : decode m_M_init.2.1 224 = .ok (.iconst 4, 1) := by decide +kernel
theorem d_M_init_225 : decode m_M_init.2.1 225 = .ok (.sipush 611, 3) := by decide +kernel
theorem d_M_init_228 : decode m_M_init.2.1 228 = .ok (.iastore, 1) := by decide +kernel
theorem d_M_init_229 : decode m_M_init.2.1 229 = .ok (.dup, 1) := by decide +kernel
theorem d_M_init_230 : decode m_M_init.2.1 230 = .ok (.iconst 5, 1) := by decide +kernel
theorem d_M_init_231 : decode m_M_init.2.1 231 = .ok (.bipush 6, 2) := by decide +kernel
theorem d_M_init_233 : decode m_M_init.2.1 233 = .ok (.iastore, 1) := by decide +kernel
theorem d_M_init_234 : decode m_M_init.2.1 234 = .ok (.dup, 1) := by decide +kernel
theorem d_M_init_235 : decode m_M_init.2.1 235 = .ok (.bipush 6, 2) := by decide +kernel
theorem d_M_init_237 : decode m_M_init.2.1 237 = .ok (.iconst 1, 1) := by decide +kernel
theorem d_M_init_238 : decode m_M_init.2.1 238 = .ok (.iastore, 1) := by decide +kernel
theorem d_M_init_239 : decode m_M_init.2.1 239 = .ok (.dup, 1) := by decide +kernel
theorem d_M_init_240 : decode m_M_init.2.1 240 = .ok (.bipush 7, 2) := by decide +kernel
theorem d_M_init_242 : decode m_M_init.2.1 242 = .ok (.bipush 7, 2) := by decide +kernel
theorem d_M_init_244 : decode m_M_init.2.1 244 = .ok (.iastore, 1) := by decide +kernel
theorem d_M_init_245 : decode m_M_init.2.1 245 = .ok (.dup, 1) := by decide +kernel
theorem d_M_init_246 : decode m_M_init.2.1 246 = .ok (.bipush 8, 2) := by decide +kernel
theorem d_M_init_248 : decode m_M_init.2.1 248 = .ok (.iconst 0, 1) := by decide +kernel
theorem d_M_init_249 : decode m_M_init.2.1 249 = .ok (.iastore, 1) := by decide +kernel
theorem d_M_init_250 : decode m_M_init.2.1 250 = .ok (.dup, 1) := by decide +kernel
theorem d_M_init_251 : decode m_M_init.2.1 251 = .ok (.bipush 9, 2) := by decide +kernel
theorem d_M_init_253 : decode m_M_init.2.1 253 = .ok (.bipush 49, 2) := by decide +kernel
theorem d_M_init_255 : decode m_M_init.2.1 255 = .ok (.iastore, 1) := by decide +kernel
theorem d_M_init_256 : decode m_M_init.2.1 256 = .ok (.dup, 1) := by decide +kernel
theorem d_M_init_257 : decode m_M_init.2.1 257 = .ok (.bipush 10, 2) := by decide +kernel
theorem d_M_init_259 : decode m_M_init.2.1 259 = .ok (.iconst 4, 1) := by decide +kernel
theorem d_M_init_260 : decode m_M_init.2.1 260 = .ok (.iastore, 1) := by decide +kernel
theorem d_M_init_261 : decode m_M_init.2.1 261 = .ok (.dup, 1) := by decide +kernel
theorem d_M_init_262 : decode m_M_init.2.1 262 = .ok (.bipush 11, 2) := by decide +kernel
theorem d_M_init_264 : decode m_M_init.2.1 264 = .ok (.bipush 74, 2) := by decide +kernel
theorem d_M_init_266 : decode m_M_init.2.1 266 = .ok (.iastore, 1) := by decide +kernel
theorem d_M_init_267 : decode m_M_init.2.1 267 = .ok (.dup, 1) := by decide +kernel
theorem d_M_init_268 : decode m_M_init.2.1 268 = .ok (.bipush 12, 2) := by decide +kernel
theorem d_M_init_270 : decode m_M_init.2.1 270 = .ok (.iconst 0, 1) := by decide +kernel
theorem d_M_init_271 : decode m_M_init.2.1 271 = .ok (.iastore, 1) := by decide +kernel
theorem d_M_init_272 : decode m_M_init.2.1 272 = .ok (.dup, 1) := by decide +kernel
theorem d_M_init_273 : decode m_M_init.2.1 273 = .ok (.bipush 13, 2) := by decide +kernel
theorem d_M_init_275 : decode m_M_init.2.1 275 = .ok (.bipush 9, 2) := by decide +kernel
theorem d_M_init_277 : decode m_M_init.2.1 277 = .ok (.iastore, 1) := by decide +kernel
theorem d_M_init_278 : decode m_M_init.2.1 278 = .ok (.dup, 1) := by decide +kernel
theorem d_M_init_279 : decode m_M_init.2.1 279 = .ok (.bipush 14, 2) := by decide +kernel
theorem d_M_init_281 : decode m_M_init.2.1 281 = .ok (.bipush 35, 2) := by decide +kernel
theorem d_M_init_283 : decode m_M_init.2.1 283 = .ok (.iastore, 1) := by decide +kernel
theorem d_M_init_284 : decode m_M_init.2.1 284 = .ok (.dup, 1) := by decide +kernel
theorem d_M_init_285 : decode m_M_init.2.1 285 = .ok (.bipush 15, 2) := by decide +kernel
theorem d_M_init_287 : decode m_M_init.2.1 287 = .ok (.sipush 355, 3) := by decide +kernel
theorem d_M_init_290 : decode m_M_init.2.1 290 = .ok (.iastore, 1) := by decide +kernel
theorem d_M_init_291 : decode m_M_init.2.1 291 = .ok (.dup, 1) := by decide +kernel
theorem d_M_init_292 : decode m_M_init.2.1 292 = .ok (.bipush 16, 2) := by decide +kernel
theorem d_M_init_294 : decode m_M_init.2.1 294 = .ok (.sipush 1115, 3) := by decide +kernel
theorem d_M_init_297 : decode m_M_init.2.1 297 = .ok (.iastore, 1) := by decide +kernel
theorem d_M_init_298 : decode m_M_init.2.1 298 = .ok (.dup, 1) := by decide +kernel
theorem d_M_init_299 : decode m_M_init.2.1 299 = .ok (.bipush 17, 2) := by decide +kernel
theorem d_M_init_301 : decode m_M_init.2.1 301 = .ok (.bipush 15, 2) := by decide +kernel
theorem d_M_init_303 : decode m_M_init.2.1 303 = .ok (.iastore, 1) := by decide +kernel
theorem d_M_init_304 : decode m_M_init.2.1 304 = .ok (.dup, 1) := by decide +kernel
theorem d_M_init_305 : decode m_M_init.2.1 305 = .ok (.bipush 18, 2) := by decide +kernel
theorem d_M_init_307 : decode m_M_init.2.1 307 = .ok (.iconst 5, 1) := by decide +kernel
theorem d_M_init_308 : decode m_M_init.2.1 308 = .ok (.iastore, 1) := by decide +kernel
theorem d_M_init_309 : decode m_M_init.2.1 309 = .ok (.dup, 1) := by decide +kernel
theorem d_M_init_310 : decode m_M_init.2.1 310 = .ok (.bipush 19, 2) := by decide +kernel
theorem d_M_init_312 : decode m_M_init.2.1 312 = .ok (.bipush 65, 2) := by decide +kernel
theorem d_M_init_314 : decode m_M_init.2.1 314 = .ok (.iastore, 1) := by decide +kernel
theorem d_M_init_315 : decode m_M_init.2.1 315 = .ok (.dup, 1) := by decide +kernel
theorem d_M_init_316 : decode m_M_init.2.1 316 = .ok (.bipush 20, 2) := by decide +kernel
theorem d_M_init_318 : decode m_M_init.2.1 318 = .ok (.iconst 0, 1) := by decide +kernel
theorem d_M_init_319 : decode m_M_init.2.1 319 = .ok (.iastore, 1) := by decide +kernel
theorem d_M_init_320 : decode m_M_init.2.1 320 = .ok (.dup, 1) := by decide +kernel
theorem d_M_init_321 : decode m_M_init.2.1 321 = .ok (.bipush 21, 2) := by decide +kernel
theorem d_M_init_323 : decode m_M_init.2.1 323 = .ok (.iconst 0, 1) := by decide +kernel
theorem d_M_init_324 : decode m_M_init.2.1 324 = .ok (.iastore, 1) := by decide +kernel
theorem d_M_init_325 : decode m_M_init.2.1 325 = .ok (.dup, 1) := by decide +kernel
theorem d_M_init_326 : decode m_M_init.2.1 326 = .ok (.bipush 22, 2) := by decide +kernel
theorem d_M_init_328 : decode m_M_init.2.1 328 = .ok (.bipush 9, 2) := by decide +kernel
theorem d_M_init_330 : decode m_M_init.2.1 330 = .ok (.iastore, 1) := by decide +kernel
theorem d_M_init_331 : decode m_M_init.2.1 331 = .ok (.dup, 1) := by decide +kernel
theorem d_M_init_332 : decode m_M_init.2.1 332 = .ok (.bipush 23, 2) := by decide +kernel
theorem d_M_init_334 : decode m_M_init.2.1 334 = .ok (.iconst 0, 1) := by decide +kernel
theorem d_M_init_335 : decode m_M_init.2.1 335 = .ok (.iastore, 1) := by decide +kernel
theorem d_M_init_336 : decode m_M_init.2.1 336 = .ok (.dup, 1) := by decide +kernel
theorem d_M_init_337 : decode m_M_init.2.1 337 = .ok (.bipush 24, 2) := by decide +kernel
theorem d_M_init_339 : decode m_M_init.2.1 339 = .ok (.iconst 0, 1) := by decide +kernel
theorem d_M_init_340 : decode m_M_init.2.1 340 = .ok (.iastore, 1) := by decide +kernel
theorem d_M_init_341 : decode m_M_init.2.1 341 = .ok (.dup, 1) := by decide +kernel
theorem d_M_init_342 : decode m_M_init.2.1 342 = .ok (.bipush 25, 2) := by decide +kernel
theorem d_M_init_344 : decode m_M_init.2.1 344 = .ok (.bipush 8, 2) := by decide +kernel
theorem d_M_init_346 : decode m_M_init.2.1 346 = .ok (.iastore, 1) := by decide +kernel
theorem d_M_init_347 : decode m_M_init.2.1 347 = .ok (.dup, 1) := by decide +kernel
theorem d_M_init_348 : decode m_M_init.2.1 348 = .ok (.bipush 26, 2) := by decide +kernel
theorem d_M_init_350 : decode m_M_init.2.1 350 = .ok (.iconst 2, 1) := by decide +kernel
theorem d_M_init_351 : decode m_M_init.2.1 351 = .ok (.iastore, 1) := by decide +kernel
theorem d_M_init_352 : decode m_M_init.2.1 352 = .ok (.dup, 1) := by decide +kernel
theorem d_M_init_353 : decode m_M_init.2.1 353 = .ok (.bipush 27, 2) := by decide +kernel
theorem d_M_init_355 : decode m_M_init.2.1 355 = .ok (.iconst 0, 1) := by decide +kernel
theorem d_M_init_356 : decode m_M_init.2.1 356 = .ok (.iastore, 1) := by decide +kernel
theorem d_M_init_357 : decode m_M_init.2.1 357 = .ok (.dup, 1) := by decide +kernel
theorem d_M_init_358 : decode m_M_init.2.1 358 = .ok (.bipush 28, 2) := by decide +kernel
theorem d_M_init_360 : decode m_M_init.2.1 360 = .ok (.bipush 22, 2) := by decide +kernel
theorem d_M_init_362 : decode m_M_init.2.1 362 = .ok (.iastore, 1) := by decide +kernel
theorem d_M_init_363 : decode m_M_init.2.1 363 = .ok (.dup, 1) := by decide +kernel
theorem d_M_init_364 : decode m_M_init.2.1 364 = .ok (.bipush 29, 2) := by decide +kernel
theorem d_M_init_366 : decode m_M_init.2.1 366 = .ok (.bipush 22, 2) := by decide +kernel
theorem d_M_init_368 : decode m_M_init.2.1 368 = .ok (.iastore, 1) := by decide +kernel
theorem d_M_init_369 : decode m_M_init.2.1 369 = .ok (.dup, 1) := by decide +kernel
theorem d_M_init_370 : decode m_M_init.2.1 370 = .ok (.bipush 30, 2) := by decide +kernel
theorem d_M_init_372 : decode m_M_init.2.1 372 = .ok (.iconst 0, 1) := by decide +kernel
theorem d_M_init_373 : decode m_M_init.2.1 373 = .ok (.iastore, 1) := by decide +kernel
theorem d_M_init_374 : decode m_M_init.2.1 374 = .ok (.dup, 1) := by decide +kernel
theorem d_M_init_375 : decode m_M_init.2.1 375 = .ok (.bipush 31, 2) := by decide +kernel
theorem d_M_init_377 : decode m_M_init.2.1 377 = .ok (.iconst 0, 1) := by decide +kernel
theorem d_M_init_378 : decode m_M_init.2.1 378 = .ok (.iastore, 1) := by decide +kernel
theorem d_M_init_379 : decode m_M_init.2.1 379 = .ok (.dup, 1) := by decide +kernel
theorem d_M_init_380 : decode m_M_init.2.1 380 = .ok (.bipush 32, 2) := by decide +kernel
theorem d_M_init_382 : decode m_M_init.2.1 382 = .ok (.iconst 0, 1) := by decide +kernel
theorem d_M_init_383 : decode m_M_init.2.1 383 = .ok (.iastore, 1) := by decide +kernel
theorem d_M_init_384 : decode m_M_init.2.1 384 = .ok (.putfield 87, 3) := by decide +kernel
theorem d_M_init_387 : decode m_M_init.2.1 387 = .ok (.aload_n 0, 1) := by decide +kernel
theorem d_M_init_388 : decode m_M_init.2.1 388 = .ok (.bipush 35, 2) := by decide +kernel
theorem d_M_init_390 : decode m_M_init.2.1 390 = .ok (.newarray .long, 2) := by decide +kernel
theorem d_M_init_392 : decode m_M_init.2.1 392 = .ok (.dup, 1) := by decide +kernel
theorem d_M_init_393 : decode m_M_init.2.1 393 = .ok (.iconst 0, 1) := by decide +kernel
theorem d_M_init_394 : decode m_M_init.2.1 394 = .ok (.ldc2_w 90, 3) := by decide +kernel
theorem d_M_init_397 : decode m_M_init.2.1 397 = .ok (.lastore, 1) := by decide +kernel
theorem d_M_init_398 : decode m_M_init.2.1 398 = .ok (.dup, 1) := by decide +kernel
theorem d_M_init_399 : decode m_M_init.2.1 399 = .ok (.iconst 1, 1) := by decide +kernel
theorem d_M_init_400 : decode m_M_init.2.1 400 = .ok (.ldc2_w 92, 3) := by decide +kernel
theorem d_M_init_403 : decode m_M_init.2.1 403 = .ok (.lastore, 1) := by decide +kernel
theorem d_M_init_404 : decode m_M_init.2.1 404 = .ok (.dup, 1) := by decide +kernel
theorem d_M_init_405 : decode m_M_init.2.1 405 = .ok (.iconst 2, 1) := by decide +kernel
theorem d_M_init_406 : decode m_M_init.2.1 406 = .ok (.ldc2_w 94, 3) := by decide +kernel
theorem d_M_init_409 : decode m_M_init.2.1 409 = .ok (.lastore, 1) := by decide +kernel
theorem d_M_init_410 : decode m_M_init.2.1 410 = .ok (.dup, 1) := by decide +kernel
theorem d_M_init_411 : decode m_M_init.2.1 411 = .ok (.iconst 3, 1) := by decide +kernel
theorem d_M_init_412 : decode m_M_init.2.1 412 = .ok (.ldc2_w 96, 3) := by decide +kernel
theorem d_M_init_415 : decode m_M_init.2.1 415 = .ok (.lastore, 1) := by decide +kernel
theorem d_M_init_416 : decode m_M_init.2.1 416 = .ok (.dup, 1) := by decide +kernel
theorem d_M_init_417 : decode m_M_init.2.1 417 = .ok (.iconst 4, 1) := by decide +kernel
theorem d_M_init_418 : decode m_M_init.2.1 418 = .ok (.ldc2_w 98, 3) := by decide +kernel
theorem d_M_init_421 : decode m_M_init.2.1 421 = .ok (.lastore, 1) := by decide +kernel
theorem d_M_init_422 : decode m_M_init.2.1 422 = .ok (.dup, 1) := by decide +kernel
theorem d_M_init_423 : decode m_M_init.2.1 423 = .ok (.iconst 5, 1) := by decide +kernel
theorem d_M_init_424 : decode m_M_init.2.1 424 = .ok (.ldc2_w 100, 3) := by decide +kernel
theorem d_M_init_427 : decode m_M_init.2.1 427 = .ok (.lastore, 1) := by decide +kernel
theorem d_M_init_428 : decode m_M_init.2.1 428 = .ok (.dup, 1) := by decide +kernel
theorem d_M_init_429 : decode m_M_init.2.1 429 = .ok (.bipush 6, 2) := by decide +kernel
theorem d_M_init_431 : decode m_M_init.2.1 431 = .ok (.ldc2_w 102, 3) := by decide +kernel
theorem d_M_init_434 : decode m_M_init.2.1 434 = .ok (.lastore, 1) := by decide +kernel
theorem d_M_init_435 : decode m_M_init.2.1 435 = .ok (.dup, 1) := by decide +kernel
theorem d_M_init_436 : decode m_M_init.2.1 436 = .ok (.bipush 7, 2) := by decide +kernel
theorem d_M_init_438 : decode m_M_init.2.1 438 = .ok (.ldc2_w 104, 3) := by decide +kernel
theorem d_M_init_441 : decode m_M_init.2.1 441 = .ok (.lastore, 1) := by decide +kernel
theorem d_M_init_442 : decode m_M_init.2.1 442 = .ok (.dup, 1) := by decide +kernel
theorem d_M_init_443 : decode m_M_init.2.1 443 = .ok (.bipush 8, 2) := by decide +kernel
theorem d_M_init_445 : decode m_M_init.2.1 445 = .ok (.ldc2_w 106, 3) := by decide +kernel
theorem d_M_init_448 : decode m_M_init.2.1 448 = .ok (.lastore, 1) := by decide +kernel
theorem d_M_init_449 : decode m_M_init.2.1 449 = .ok (.dup, 1) := by decide +kernel
theorem d_M_init_450 : decode m_M_init.2.1 450 = .ok (.bipush 9, 2) := by decide +kernel
theorem d_M_init_452 : decode m_M_init.2.1 452 = .ok (.ldc2_w 108, 3) := by decide +kernel
theorem d_M_init_455 : decode m_M_init.2.1 455 = .ok (.lastore, 1) := by decide +kernel
theorem d_M_init_456 : decode m_M_init.2.1 456 = .ok (.dup, 1) := by decide +kernel
theorem d_M_init_457 : decode m_M_init.2.1 457 = .ok (.bipush 10, 2) := by decide +kernel
theorem d_M_init_459 : decode m_M_init.2.1 459 = .ok (.ldc2_w 110, 3) := by decide +kernel
theorem d_M_init_462 : decode m_M_init.2.1 462 = .ok (.lastore, 1) := by decide +kernel
theorem d_M_init_463 : decode m_M_init.2.1 463 = .ok (.dup, 1) := by decide +kernel
theorem d_M_init_464 : decode m_M_init.2.1 464 = .ok (.bipush 11, 2) := by decide +kernel
theorem d_M_init_466 : decode m_M_init.2.1 466 = .ok (.ldc2_w 112, 3) := by decide +kernel
theorem d_M_init_469 : decode m_M_init.2.1 469 = .ok (.lastore, 1) := by decide +kernel
theorem d_M_init_470 : decode m_M_init.2.1 470 = .ok (.dup, 1) := by decide +kernel
theorem d_M_init_471 : decode m_M_init.2.1 471 = .ok (.bipush 12, 2) := by decide +kernel
theorem d_M_init_473 : decode m_M_init.2.1 473 = .ok (.ldc2_w 114, 3) := by decide +kernel
theorem d_M_init_476 : decode m_M_init.2.1 476 = .ok (.lastore, 1) := by decide +kernel
theorem d_M_init_477 : decode m_M_init.2.1 477 = .ok (.dup, 1) := by decide +kernel
theorem d_M_init_478 : decode m_M_init.2.1 478 = .ok (.bipush 13, 2) := by decide +kernel
theorem d_M_init_480 : decode m_M_init.2.1 480 = .ok (.ldc2_w 116, 3) := by decide +kernel
theorem d_M_init_483 : decode m_M_init.2.1 483 = .ok (.lastore, 1) := by decide +kernel
theorem d_M_init_484 : decode m_M_init.2.1 484 = .ok (.dup, 1) := by decide +kernel
theorem d_M_init_485 : decode m_M_init.2.1 485 = .ok (.bipush 14, 2) := by decide +kernel
theorem d_M_init_487 : decode m_M_init.2.1 487 = .ok (.ldc2_w 118, 3) := by decide +kernel
theorem d_M_init_490 : decode m_M_init.2.1 490 = .ok (.lastore, 1) := by decide +kernel
theorem d_M_init_491 : decode m_M_init.2.1 491 = .ok (.dup, 1) := by decide +kernel
theorem d_M_init_492 : decode m_M_init.2.1 492 = .ok (.bipush 15, 2) := by decide +kernel
theorem d_M_init_494 : decode m_M_init.2.1 494 = .ok (.ldc2_w 120, 3) := by decide +kernel
theorem d_M_init_497 : decode m_M_init.2.1 497 = .ok (.lastore, 1) := by decide +kernel
theorem d_M_init_498 : decode m_M_init.2.1 498 = .ok (.dup, 1) := by decide +kernel
theorem d_M_init_499 : decode m_M_init.2.1 499 = .ok (.bipush 16, 2) := by decide +kernel
theorem d_M_init_501 : decode m_M_init.2.1 501 = .ok (.ldc2_w 122, 3) := by decide +kernel
theorem d_M_init_504 : decode m_M_init.2.1 504 = .ok (.lastore, 1) := by decide +kernel
theorem d_M_init_505 : decode m_M_init.2.1 505 = .ok (.dup, 1) := by decide +kernel
theorem d_M_init_506 : decode m_M_init.2.1 506 = .ok (.bipush 17, 2) := by decide +kernel
theorem d_M_init_508 : decode m_M_init.2.1 508 = .ok (.ldc2_w 124, 3) := by decide +kernel
theorem d_M_init_511 : decode m_M_init.2.1 511 = .ok (.lastore, 1) := by decide +kernel
theorem d_M_init_512 : decode m_M_init.2.1 512 = .ok (.dup, 1) := by decide +kernel
theorem d_M_init_513 : decode m_M_init.2.1 513 = .ok (.bipush 18, 2) := by decide +kernel
theorem d_M_init_515 : decode m_M_init.2.1 515 = .ok (.ldc2_w 126, 3) := by decide +kernel
theorem d_M_init_518 : decode m_M_init.2.1 518 = .ok (.lastore, 1) := by decide +kernel
theorem d_M_init_519 : decode m_M_init.2.1 519 = .ok (.dup, 1) := by decide +kernel
theorem d_M_init_520 : decode m_M_init.2.1 520 = .ok (.bipush 19, 2) := by decide +kernel
theorem d_M_init_522 : decode m_M_init.2.1 522 = .ok (.ldc2_w 128, 3) := by decide +kernel
theorem d_M_init_525 : decode m_M_init.2.1 525 = .ok (.lastore, 1) := by decide +kernel
theorem d_M_init_526 : decode m_M_init.2.1 526 = .ok (.dup, 1) := by decide +kernel
theorem d_M_init_527 : decode m_M_init.2.1 527 = .ok (.bipush 20, 2) := by decide +kernel
theorem d_M_init_529 : decode m_M_init.2.1 529 = .ok (.ldc2_w 130, 3) := by decide +kernel
theorem d_M_init_532 : decode m_M_init.2.1 532 = .ok (.lastore, 1) := by decide +kernel
theorem d_M_init_533 : decode m_M_init.2.1 533 = .ok (.dup, 1) := by decide +kernel
theorem d_M_init_534 : decode m_M_init.2.1 534 = .ok (.bipush 21, 2) := by decide +kernel
theorem d_M_init_536 : decode m_M_init.2.1 536 = .ok (.ldc2_w 132, 3) := by decide +kernel
theorem d_M_init_539 : decode m_M_init.2.1 539 = .ok (.lastore, 1) := by decide +kernel
theorem d_M_init_540 : decode m_M_init.2.1 540 = .ok (.dup, 1) := by decide +kernel
theorem d_M_init_541 : decode m_M_init.2.1 541 = .ok (.bipush 22, 2) := by decide +kernel
theorem d_M_init_543 : decode m_M_init.2.1 543 = .ok (.ldc2_w 134, 3) := by decide +kernel
theorem d_M_init_546 : decode m_M_init.2.1 546 = .ok (.lastore, 1) := by decide +kernel
theorem d_M_init_547 : decode m_M_init.2.1 547 = .ok (.dup, 1) := by decide +kernel
theorem d_M_init_548 : decode m_M_init.2.1 548 = .ok (.bipush 23, 2) := by decide +kernel
theorem d_M_init_550 : decode m_M_init.2.1 550 = .ok (.ldc2_w 136, 3) := by decide +kernel
theorem d_M_init_553 : decode m_M_init.2.1 553 = .ok (.lastore, 1) := by decide +kernel
theorem d_M_init_554 : decode m_M_init.2.1 554 = .ok (.dup, 1) := by decide +kernel
theorem d_M_init_555 : decode m_M_init.2.1 555 = .ok (.bipush 24, 2) := by decide +kernel
theorem d_M_init_557 : decode m_M_init.2.1 557 = .ok (.ldc2_w 138, 3) := by decide +kernel
theorem d_M_init_560 : decode m_M_init.2.1 560 = .ok (.lastore, 1) := by decide +kernel
theorem d_M_init_561 : decode m_M_init.2.1 561 = .ok (.dup, 1) := by decide +kernel
theorem d_M_init_562 : decode m_M_init.2.1 562 = .ok (.bipush 25, 2) := by decide +kernel
theorem d_M_init_564 : decode m_M_init.2.1 564 = .ok (.ldc2_w 140, 3) := by decide +kernel
theorem d_M_init_567 : decode m_M_init.2.1 567 = .ok (.lastore, 1) := by decide +kernel
theorem d_M_init_568 : decode m_M_init.2.1 568 = .ok (.dup, 1) := by decide +kernel
theorem d_M_init_569 : decode m_M_init.2.1 569 = .ok (.bipush 26, 2) := by decide +kernel
theorem d_M_init_571 : decode m_M_init.2.1 571 = .ok (.ldc2_w 142, 3) := by decide +kernel
theorem d_M_init_574 : decode m_M_init.2.1 574 = .ok (.lastore, 1) := by decide +kernel
theorem d_M_init_575 : decode m_M_init.2.1 575 = .ok (.dup, 1) := by decide +kernel
theorem d_M_init_576 : decode m_M_init.2.1 576 = .ok (.bipush 27, 2) := by decide +kernel
theorem d_M_init_578 : decode m_M_init.2.1 578 = .ok (.ldc2_w 144, 3) := by decide +kernel
theorem d_M_init_581 : decode m_M_init.2.1 581 = .ok (.lastore, 1) := by decide +kernel
theorem d_M_init_582 : decode m_M_init.2.1 582 = .ok (.dup, 1) := by decide +kernel
theorem d_M_init_583 : decode m_M_init.2.1 583 = .ok (.bipush 28, 2) := by decide +kernel
theorem d_M_init_585 : decode m_M_init.2.1 585 = .ok (.ldc2_w 146, 3) := by decide +kernel
theorem d_M_init_588 : decode m_M_init.2.1 588 = .ok (.lastore, 1) := by decide +kernel
theorem d_M_init_589 : decode m_M_init.2.1 589 = .ok (.dup, 1) := by decide +kernel
theorem d_M_init_590 : decode m_M_init.2.1 590 = .ok (.bipush 29, 2) := by decide +kernel
theorem d_M_init_592 : decode m_M_init.2.1 592 = .ok (.ldc2_w 148, 3) := by decide +kernel
theorem d_M_init_595 : decode m_M_init.2.1 595 = .ok (.lastore, 1) := by decide +kernel
theorem d_M_init_596 : decode m_M_init.2.1 596 = .ok (.dup, 1) := by decide +kernel
theorem d_M_init_597 : decode m_M_init.2.1 597 = .ok (.bipush 30, 2) := by decide +kernel
theorem d_M_init_599 : decode m_M_init.2.1 599 = .ok (.ldc2_w 150, 3) := by decide +kernel
theorem d_M_init_602 : decode m_M_init.2.1 602 = .ok (.lastore, 1) := by decide +kernel
theorem d_M_init_603 : decode m_M_init.2.1 603 = .ok (.dup, 1) := by decide +kernel
theorem d_M_init_604 : decode m_M_init.2.1 604 = .ok (.bipush 31, 2) := by decide +kernel
theorem d_M_init_606 : decode m_M_init.2.1 606 = .ok (.ldc2_w 152, 3) := by decide +kernel
theorem d_M_init_609 : decode m_M_init.2.1 609 = .ok (.lastore, 1) := by decide +kernel
theorem d_M_init_610 : decode m_M_init.2.1 610 = .ok (.dup, 1) := by decide +kernel
theorem d_M_init_611 : decode m_M_init.2.1 611 = .ok (.bipush 32, 2) := by decide +kernel
theorem d_M_init_613 : decode m_M_init.2.1 613 = .ok (.ldc2_w 154, 3) := by decide +kernel
theorem d_M_init_616 : decode m_M_init.2.1 616 = .ok (.lastore, 1) := by decide +kernel
theorem d_M_init_617 : decode m_M_init.2.1 617 = .ok (.dup, 1) := by decide +kernel
theorem d_M_init_618 : decode m_M_init.2.1 618 = .ok (.bipush 33, 2) := by decide +kernel
theorem d_M_init_620 : decode m_M_init.2.1 620 = .ok (.ldc2_w 156, 3) := by decide +kernel
theorem d_M_init_623 : decode m_M_init.2.1 623 = .ok (.lastore, 1) := by decide +kernel
theorem d_M_init_624 : decode m_M_init.2.1 624 = .ok (.dup, 1) := by decide +kernel
theorem d_M_init_625 : decode m_M_init.2.1 625 = .ok (.bipush 34, 2) := by decide +kernel
theorem d_M_init_627 : decode m_M_init.2.1 627 = .ok (.ldc2_w 158, 3) := by decide +kernel
theorem d_M_init_630 : decode m_M_init.2.1 630 = .ok (.lastore, 1) := by decide +kernel
theorem d_M_init_631 : decode m_M_init.2.1 631 = .ok (.putfield 160, 3) := by decide +kernel
theorem d_M_init_634 : decode m_M_init.2.1 634 = .ok (.aload_n 0, 1) := by decide +kernel
theorem d_M_init_635 : decode m_M_init.2.1 635 = .ok (.bipush 35, 2) := by decide +kernel
theorem d_M_init_637 : decode m_M_init.2.1 637 = .ok (.newarray .long, 2) := by decide +kernel
theorem d_M_init_639 : decode m_M_init.2.1 639 = .ok (.dup, 1) := by decide +kernel
theorem d_M_init_640 : decode m_M_init.2.1 640 = .ok (.iconst 0, 1) := by decide +kernel
theorem d_M_init_641 : decode m_M_init.2.1 641 = .ok (.ldc2_w 163, 3) := by decide +kernel
theorem d_M_init_644 : decode m_M_init.2.1 644 = .ok (.lastore, 1) := by decide +kernel
theorem d_M_init_645 : decode m_M_init.2.1 645 = .ok (.dup, 1) := by decide +kernel
theorem d_M_init_646 : decode m_M_init.2.1 646 = .ok (.iconst 1, 1) := by decide +kernel
theorem d_M_init_647 : decode m_M_init.2.1 647 = .ok (.ldc2_w 165, 3) := by decide +kernel
theorem d_M_init_650 : decode m_M_init.2.1 650 = .ok (.lastore, 1) := by decide +kernel
theorem d_M_init_651 : decode m_M_init.2.1 651 = .ok (.dup, 1) := by decide +kernel
theorem d_M_init_652 : decode m_M_init.2.1 652 = .ok (.iconst 2, 1) := by decide +kernel
theorem d_M_init_653 : decode m_M_init.2.1 653 = .ok (.ldc2_w 167, 3) := by decide +kernel
theorem d_M_init_656 : decode m_M_init.2.1 656 = .ok (.lastore, 1) := by decide +kernel
theorem d_M_init_657 : decode m_M_init.2.1 657 = .ok (.dup, 1) := by decide +kernel
theorem d_M_init_658 : decode m_M_init.2.1 658 = .ok (.iconst 3, 1) := by decide +kernel
theorem d_M_init_659 : decode m_M_init.2.1 659 = .ok (.ldc2_w 169, 3) := by decide +kernel
theorem d_M_init_662 : decode m_M_init.2.1 662 = .ok (.lastore, 1) := by decide +kernel
theorem d_M_init_663 : decode m_M_init.2.1 663 = .ok (.dup, 1) := by decide +kernel
theorem d_M_init_664 : decode m_M_init.2.1 664 = .ok (.iconst 4, 1) := by decide +kernel
theorem d_M_init_665 : decode m_M_init.2.1 665 = .ok (.ldc2_w 171, 3) := by decide +kernel
theorem d_M_init_668 : decode m_M_init.2.1 668 = .ok (.lastore, 1) := by decide +kernel
theorem d_M_init_669 : decode m_M_init.2.1 669 = .ok (.dup, 1) := by decide +kernel
theorem d_M_init_670 : decode m_M_init.2.1 670 = .ok (.iconst 5, 1) := by decide +kernel
theorem d_M_init_671 : decode m_M_init.2.1 671 = .ok (.ldc2_w 173, 3) := by decide +kernel
theorem d_M_init_674 : decode m_M_init.2.1 674 = .ok (.lastore, 1) := by decide +kernel
theorem d_M_init_675 : decode m_M_init.2.1 675 = .ok (.dup, 1) := by decide +kernel
theorem d_M_init_676 : decode m_M_init.2.1 676 = .ok (.bipush 6, 2) := by decide +kernel
theorem d_M_init_678 : decode m_M_init.2.1 678 = .ok (.ldc2_w 175, 3) := by decide +kernel
theorem d_M_init_681 : decode m_M_init.2.1 681 = .ok (.lastore, 1) := by decide +kernel
theorem d_M_init_682 : decode m_M_init.2.1 682 = .ok (.dup, 1) := by decide +kernel
theorem d_M_init_683 : decode m_M_init.2.1 683 = .ok (.bipush 7, 2) := by decide +kernel
theorem d_M_init_685 : decode m_M_init.2.1 685 = .ok (.ldc2_w 177, 3) := by decide +kernel
theorem d_M_init_688 : decode m_M_init.2.1 688 = .ok (.lastore, 1) := by decide +kernel
theorem d_M_init_689 : decode m_M_init.2.1 689 = .ok (.dup, 1) := by decide +kernel
theorem d_M_init_690 : decode m_M_init.2.1 690 = .ok (.bipush 8, 2) := by decide +kernel
theorem d_M_init_692 : decode m_M_init.2.1 692 = .ok (.ldc2_w 179, 3) := by decide +kernel
theorem d_M_init_695 : decode m_M_init.2.1 695 = .ok (.lastore, 1) := by decide +kernel
theorem d_M_init_696 : decode m_M_init.2.1 696 = .ok (.dup, 1) := by decide +kernel
theorem d_M_init_697 : decode m_M_init.2.1 697 = .ok (.bipush 9, 2) := by decide +kernel
theorem d_M_init_699 : decode m_M_init.2.1 699 = .ok (.ldc2_w 181, 3) := by decide +kernel
theorem d_M_init_702 : decode m_M_init.2.1 702 = .ok (.lastore, 1) := by decide +kernel
theorem d_M_init_703 : decode m_M_init.2.1 703 = .ok (.dup, 1) := by decide +kernel
theorem d_M_init_704 : decode m_M_init.2.1 704 = .ok (.bipush 10, 2) := by decide +kernel
theorem d_M_init_706 : decode m_M_init.2.1 706 = .ok (.ldc2_w 183, 3) := by decide +kernel
theorem d_M_init_709 : decode m_M_init.2.1 709 = .ok (.lastore, 1) := by decide +kernel
theorem d_M_init_710 : decode m_M_init.2.1 710 = .ok (.dup, 1) := by decide +kernel
theorem d_M_init_711 : decode m_M_init.2.1 711 = .ok (.bipush 11, 2) := by decide +kernel
theorem d_M_init_713 : decode m_M_init.2.1 713 = .ok (.ldc2_w 185, 3) := by decide +kernel
theorem d_M_init_716 : decode m_M_init.2.1 716 = .ok (.lastore, 1) := by decide +kernel
theorem d_M_init_717 : decode m_M_init.2.1 717 = .ok (.dup, 1) := by decide +kernel
theorem d_M_init_718 : decode m_M_init.2.1 718 = .ok (.bipush 12, 2) := by decide +kernel
theorem d_M_init_720 : decode m_M_init.2.1 720 = .ok (.ldc2_w 187, 3) := by decide +kernel
theorem d_M_init_723 : decode m_M_init.2.1 723 = .ok (.lastore, 1) := by decide +kernel
theorem d_M_init_724 : decode m_M_init.2.1 724 = .ok (.dup, 1) := by decide +kernel
theorem d_M_init_725 : decode m_M_init.2.1 725 = .ok (.bipush 13, 2) := by decide +kernel
theorem d_M_init_727 : decode m_M_init.2.1 727 = .ok (.ldc2_w 189, 3) := by decide +kernel
theorem d_M_init_730 : decode m_M_init.2.1 730 = .ok (.lastore, 1) := by decide +kernel
theorem d_M_init_731 : decode m_M_init.2.1 731 = .ok (.dup, 1) := by decide +kernel
theorem d_M_init_732 : decode m_M_init.2.1 732 = .ok (.bipush 14, 2) := by decide +kernel
theorem d_M_init_734 : decode m_M_init.2.1 734 = .ok (.ldc2_w 191, 3) := by decide +kernel
theorem d_M_init_737 : decode m_M_init.2.1 737 = .ok (.lastore, 1) := by decide +kernel
theorem d_M_init_738 : decode m_M_init.2.1 738 = .ok (.dup, 1) := by decide +kernel
theorem d_M_init_739 : decode m_M_init.2.1 739 = .ok (.bipush 15, 2) := by decide +kernel
theorem d_M_init_741 : decode m_M_init.2.1 741 = .ok (.ldc2_w 193, 3) := by decide +kernel
theorem d_M_init_744 : decode m_M_init.2.1 744 = .ok (.lastore, 1) := by decide +kernel
theorem d_M_init_745 : decode m_M_init.2.1 745 = .ok (.dup, 1) := by decide +kernel
theorem d_M_init_746 : decode m_M_init.2.1 746 = .ok (.bipush 16, 2) := by decide +kernel
theorem d_M_init_748 : decode m_M_init.2.1 748 = .ok (.ldc2_w 195, 3) := by decide +kernel
theorem d_M_init_751 : decode m_M_init.2.1 751 = .ok (.lastore, 1) := by decide +kernel
theorem d_M_init_752 : decode m_M_init.2.1 752 = .ok (.dup, 1) := by decide +kernel
theorem d_M_init_753 : decode m_M_init.2.1 753 = .ok (.bipush 17, 2) := by decide +kernel
theorem d_M_init_755 : decode m_M_init.2.1 755 = .ok (.ldc2_w 197, 3) := by decide +kernel
theorem d_M_init_758 : decode m_M_init.2.1 758 = .ok (.lastore, 1) := by decide +kernel
theorem d_M_init_759 : decode m_M_init.2.1 759 = .ok (.dup, 1) := by decide +kernel
theorem d_M_init_760 : decode m_M_init.2.1 760 = .ok (.bipush 18, 2) := by decide +kernel
theorem d_M_init_762 : decode m_M_init.2.1 762 = .ok (.ldc2_w 199, 3) := by decide +kernel
theorem d_M_init_765 : decode m_M_init.2.1 765 = .ok (.lastore, 1) := by decide +kernel
theorem d_M_init_766 : decode m_M_init.2.1 766 = .ok (.dup, 1) := by decide +kernel
theorem d_M_init_767 : decode m_M_init.2.1 767 = .ok (.bipush 19, 2) := by decide +kernel
theorem d_M_init_769 : decode m_M_init.2.1 769 = .ok (.ldc2_w 201, 3) := by decide +kernel
theorem d_M_init_772 : decode m_M_init.2.1 772 = .ok (.lastore, 1) := by decide +kernel
theorem d_M_init_773 : decode m_M_init.2.1 773 = .ok (.dup, 1) := by decide +kernel
theorem d_M_init_774 : decode m_M_init.2.1 774 = .ok (.bipush 20, 2) := by decide +kernel
theorem d_M_init_776 : decode m_M_init.2.1 776 = .ok (.ldc2_w 203, 3) := by decide +kernel
theorem d_M_init_779 : decode m_M_init.2.1 779 = .ok (.lastore, 1) := by decide +kernel
theorem d_M_init_780 : decode m_M_init.2.1 780 = .ok (.dup, 1) := by decide +kernel
theorem d_M_init_781 : decode m_M_init.2.1 781 = .ok (.bipush 21, 2) := by decide +kernel
theorem d_M_init_783 : decode m_M_init.2.1 783 = .ok (.ldc2_w 205, 3) := by decide +kernel
theorem d_M_init_786 : decode m_M_init.2.1 786 = .ok (.lastore, 1) := by decide +kernel
theorem d_M_init_787 : decode m_M_init.2.1 787 = .ok (.dup, 1) := by decide +kernel
theorem d_M_init_788 : decode m_M_init.2.1 788 = .ok (.bipush 22, 2) := by decide +kernel
theorem d_M_init_790 : decode m_M_init.2.1 790 = .ok (.ldc2_w 207, 3) := by decide +kernel
theorem d_M_init_793 : decode m_M_init.2.1 793 = .ok (.lastore, 1) := by decide +kernel
theorem d_M_init_794 : decode m_M_init.2.1 794 = .ok (.dup, 1) := by decide +kernel
theorem d_M_init_795 : decode m_M_init.2.1 795 = .ok (.bipush 23, 2) := by decide +kernel
theorem d_M_init_797 : decode m_M_init.2.1 797 = .ok (.ldc2_w 209, 3) := by decide +kernel
theorem d_M_init_800 : decode m_M_init.2.1 800 = .ok (.lastore, 1) := by decide +kernel
theorem d_M_init_801 : decode m_M_init.2.1 801 = .ok (.dup, 1) := by decide +kernel
theorem d_M_init_802 : decode m_M_init.2.1 802 = .ok (.bipush 24, 2) := by decide +kernel
theorem d_M_init_804 : decode m_M_init.2.1 804 = .ok (.ldc2_w 211, 3) := by decide +kernel
theorem d_M_init_807 : decode m_M_init.2.1 807 = .ok (.lastore, 1) := by decide +kernel
theorem d_M_init_808 : decode m_M_init.2.1 808 = .ok (.dup, 1) := by decide +kernel
theorem d_M_init_809 : decode m_M_init.2.1 809 = .ok (.bipush 25, 2) := by decide +kernel
theorem d_M_init_811 : decode m_M_init.2.1 811 = .ok (.ldc2_w 213, 3) := by decide +kernel
theorem d_M_init_814 : decode m_M_init.2.1 814 = .ok (.lastore, 1) := by decide +kernel
theorem d_M_init_815 : decode m_M_init.2.1 815 = .ok (.dup, 1) := by decide +kernel
theorem d_M_init_816 : decode m_M_init.2.1 816 = .ok (.bipush 26, 2) := by decide +kernel
theorem d_M_init_818 : decode m_M_init.2.1 818 = .ok (.ldc2_w 215, 3) := by decide +kernel
theorem d_M_init_821 : decode m_M_init.2.1 821 = .ok (.lastore, 1) := by decide +kernel
theorem d_M_init_822 : decode m_M_init.2.1 822 = .ok (.dup, 1) := by decide +kernel
theorem d_M_init_823 : decode m_M_init.2.1 823 = .ok (.bipush 27, 2) := by decide +kernel
theorem d_M_init_825 : decode m_M_init.2.1 825 = .ok (.ldc2_w 217, 3) := by decide +kernel
theorem d_M_init_828 : decode m_M_init.2.1 828 = .ok (.lastore, 1) := by decide +kernel
theorem d_M_init_829 : decode m_M_init.2.1 829 = .ok (.dup, 1) := by decide +kernel
theorem d_M_init_830 : decode m_M_init.2.1 830 = .ok (.bipush 28, 2) := by decide +kernel
theorem d_M_init_832 : decode m_M_init.2.1 832 = .ok (.ldc2_w 219, 3) := by decide +kernel
theorem d_M_init_835 : decode m_M_init.2.1 835 = .ok (.lastore, 1) := by decide +kernel
theorem d_M_init_836 : decode m_M_init.2.1 836 = .ok (.dup, 1) := by decide +kernel
theorem d_M_init_837 : decode m_M_init.2.1 837 = .ok (.bipush 29, 2) := by decide +kernel
theorem d_M_init_839 : decode m_M_init.2.1 839 = .ok (.ldc2_w 221, 3) := by decide +kernel
theorem d_M_init_842 : decode m_M_init.2.1 842 = .ok (.lastore, 1) := by decide +kernel
theorem d_M_init_843 : decode m_M_init.2.1 843 = .ok (.dup, 1) := by decide +kernel
theorem d_M_init_844 : decode m_M_init.2.1 844 = .ok (.bipush 30, 2) := by decide +kernel
theorem d_M_init_846 : decode m_M_init.2.1 846 = .ok (.ldc2_w 223, 3) := by decide +kernel
theorem d_M_init_849 : decode m_M_init.2.1 849 = .ok (.lastore, 1) := by decide +kernel
theorem d_M_init_850 : decode m_M_init.2.1 850 = .ok (.dup, 1) := by decide +kernel
theorem d_M_init_851 : decode m_M_init.2.1 851 = .ok (.bipush 31, 2) := by decide +kernel
theorem d_M_init_853 : decode m_M_init.2.1 853 = .ok (.ldc2_w 225, 3) := by decide +kernel
theorem d_M_init_856 : decode m_M_init.2.1 856 = .ok (.lastore, 1) := by decide +kernel
theorem d_M_init_857 : decode m_M_init.2.1 857 = .ok (.dup, 1) := by decide +kernel
theorem d_M_init_858 : decode m_M_init.2.1 858 = .ok (.bipush 32, 2) := by decide +kernel
theorem d_M_init_860 : decode m_M_init.2.1 860 = .ok (.ldc2_w 227, 3) := by decide +kernel
theorem d_M_init_863 : decode m_M_init.2.1 863 = .ok (.lastore, 1) := by decide +kernel
theorem d_M_init_864 : decode m_M_init.2.1 864 = .ok (.dup, 1) := by decide +kernel
theorem d_M_init_865 : decode m_M_init.2.1 865 = .ok (.bipush 33, 2) := by decide +kernel
theorem d_M_init_867 : decode m_M_init.2.1 867 = .ok (.ldc2_w 229, 3) := by decide +kernel
theorem d_M_init_870 : decode m_M_init.2.1 870 = .ok (.lastore, 1) := by decide +kernel
theorem d_M_init_871 : decode m_M_init.2.1 871 = .ok (.dup, 1) := by decide +kernel
theorem d_M_init_872 : decode m_M_init.2.1 872 = .ok (.bipush 34, 2) := by decide +kernel
theorem d_M_init_874 : decode m_M_init.2.1 874 = .ok (.ldc2_w 231, 3) := by decide +kernel
theorem d_M_init_877 : decode m_M_init.2.1 877 = .ok (.lastore, 1) := by decide +kernel
theorem d_M_init_878 : decode m_M_init.2.1 878 = .ok (.putfield 233, 3) := by decide +kernel
theorem d_M_init_881 : decode m_M_init.2.1 881 = .ok (.aload_n 0, 1) := by decide +kernel
theorem d_M_init_882 : decode m_M_init.2.1 882 = .ok (.iload_n 1, 1) := by decide +kernel
theorem d_M_init_883 : decode m_M_init.2.1 883 = .ok (.iconst 1, 1) := by decide +kernel
theorem d_M_init_884 : decode m_M_init.2.1 884 = .ok (.if_icmp .lt 9, 3) := by decide +kernel
theorem d_M_init_887 : decode m_M_init.2.1 887 = .ok (.iload_n 1, 1) := by decide +kernel
theorem d_M_init_888 : decode m_M_init.2.1 888 = .ok (.bipush 24, 2) := by decide +kernel
theorem d_M_init_890 : decode m_M_init.2.1 890 = .ok (.if_icmp .le 8, 3) := by decide +kernel
theorem d_M_init_893 : decode m_M_init.2.1 893 = .ok (.bipush 16, 2) := by decide +kernel
theorem d_M_init_895 : decode m_M_init.2.1 895 = .ok (.goto 4, 3) := by decide +kernel
theorem d_M_init_898 : decode m_M_init.2.1 898 = .ok (.iload_n 1, 1) := by decide +kernel
theorem d_M_init_899 : decode m_M_init.2.1 899 = .ok (.putfield 236, 3) := by decide +kernel
theorem d_M_init_902 : decode m_M_init.2.1 902 = .ok (.aload_n 0, 1) := by decide +kernel
theorem d_M_init_903 : decode m_M_init.2.1 903 = .ok (.iload_n 2, 1) := by decide +kernel
theorem d_M_init_904 : decode m_M_init.2.1 904 = .ok (.iconst 1, 1) := by decide +kernel
theorem d_M_init_905 : decode m_M_init.2.1 905 = .ok (.if_icmp .lt 9, 3) := by decide +kernel
theorem d_M_init_908 : decode m_M_init.2.1 908 = .ok (.iload_n 2, 1) := by decide +kernel
theorem d_M_init_909 : decode m_M_init.2.1 909 = .ok (.bipush 16, 2) := by decide +kernel
theorem d_M_init_911 : decode m_M_init.2.1 911 = .ok (.if_icmp .le 8, 3) := by decide +kernel
theorem d_M_init_914 : decode m_M_init.2.1 914 = .ok (.bipush 12, 2) := by decide +kernel
theorem d_M_init_916 : decode m_M_init.2.1 916 = .ok (.goto 4, 3) := by decide +kernel
theorem d_M_init_919 : decode m_M_init.2.1 919 = .ok (.iload_n 2, 1) := by decide +kernel
theorem d_M_init_920 : decode m_M_init.2.1 920 = .ok (.putfield 239, 3) := by decide +kernel
theorem d_M_init_923 : decode m_M_init.2.1 923 = .ok (.aload_n 0, 1) := by decide +kernel
theorem d_M_init_924 : decode m_M_init.2.1 924 = .ok (.getfield 27, 3) := by decide +kernel
theorem d_M_init_927 : decode m_M_init.2.1 927 = .ok (.iconst 0, 1) := by decide +kernel
theorem d_M_init_928 : decode m_M_init.2.1 928 = .ok (.bipush 20, 2) := by decide +kernel
theorem d_M_init_930 : decode m_M_init.2.1 930 = .ok (.iastore, 1) := by decide +kernel
theorem d_M_init_931 : decode m_M_init.2.1 931 = .ok (.return_, 1) := by decide +kernel
theorem d_W_law_0 : decode m_W_law.2.1 0 = .ok (.new 8, 3) := by decide +kernel
theorem d_W_law_3 : decode m_W_law.2.1 3 = .ok (.dup, 1) := by decide +kernel
theorem d_W_law_4 : decode m_W_law.2.1 4 = .ok (.aload_n 0, 1) := by decide +kernel
theorem d_W_law_5 : decode m_W_law.2.1 5 = .ok (.iconst 0, 1) := by decide +kernel
theorem d_W_law_6 : decode m_W_law.2.1 6 = .ok (.invokestatic 29, 3) := by decide +kernel
theorem d_W_law_9 : decode m_W_law.2.1 9 = .ok (.aload_n 0, 1) := by decide +kernel
theorem d_W_law_10 : decode m_W_law.2.1 10 = .ok (.iconst 1, 1) := by decide +kernel
theorem d_W_law_11 : decode m_W_law.2.1 11 = .ok (.invokestatic 29, 3) := by decide +kernel
theorem d_W_law_14 : decode m_W_law.2.1 14 = .ok (.invokespecial 35, 3) := by decide +kernel
theorem d_W_law_17 : decode m_W_law.2.1 17 = .ok (.astore_n 1, 1) := by decide +kernel
theorem d_W_law_18 : decode m_W_law.2.1 18 = .ok (.new 38, 3) := by decide +kernel
theorem d_W_law_21 : decode m_W_law.2.1 21 = .ok (.dup, 1) := by decide +kernel
theorem d_W_law_22 : decode m_W_law.2.1 22 = .ok (.aload_n 0, 1) := by decide +kernel
theorem d_W_law_23 : decode m_W_law.2.1 23 = .ok (.iconst 0, 1) := by decide +kernel
theorem d_W_law_24 : decode m_W_law.2.1 24 = .ok (.invokestatic 29, 3) := by decide +kernel
theorem d_W_law_27 : decode m_W_law.2.1 27 = .ok (.aload_n 0, 1) := by decide +kernel
theorem d_W_law_28 : decode m_W_law.2.1 28 = .ok (.iconst 1, 1) := by decide +kernel
theorem d_W_law_29 : decode m_W_law.2.1 29 = .ok (.invokestatic 29, 3) := by decide +kernel
theorem d_W_law_32 : decode m_W_law.2.1 32 = .ok (.invokespecial 40, 3) := by decide +kernel
theorem d_W_law_35 : decode m_W_law.2.1 35 = .ok (.astore_n 2, 1) := by decide +kernel
theorem d_W_law_36 : decode m_W_law.2.1 36 = .ok (.iconst 1, 1) := by decide +kernel
theorem d_W_law_37 : decode m_W_law.2.1 37 = .ok (.newarray .long, 2) := by decide +kernel
theorem d_W_law_39 : decode m_W_law.2.1 39 = .ok (.astore_n 3, 1) := by decide +kernel
theorem d_W_law_40 : decode m_W_law.2.1 40 = .ok (.iconst 1, 1) := by decide +kernel
theorem d_W_law_41 : decode m_W_law.2.1 41 = .ok (.newarray .double, 2) := by decide +kernel
theorem d_W_law_43 : decode m_W_law.2.1 43 = .ok (.astore 4, 2) := by decide +kernel
theorem d_W_law_45 : decode m_W_law.2.1 45 = .ok (.iconst 2, 1) := by decide +kernel
theorem d_W_law_46 : decode m_W_law.2.1 46 = .ok (.istore 5, 2) := by decide +kernel
theorem d_W_law_48 : decode m_W_law.2.1 48 = .ok (.iload 5, 2) := by decide +kernel
theorem d_W_law_50 : decode m_W_law.2.1 50 = .ok (.aload_n 0, 1) := by decide +kernel
theorem d_W_law_51 : decode m_W_law.2.1 51 = .ok (.arraylength, 1) := by decide +kernel
theorem d_W_law_52 : decode m_W_law.2.1 52 = .ok (.iconst 3, 1) := by decide +kernel
theorem d_W_law_53 : decode m_W_law.2.1 53 = .ok (.isub, 1) := by decide +kernel
theorem d_W_law_54 : decode m_W_law.2.1 54 = .ok (.if_icmp .gt 572, 3) := by decide +kernel
theorem d_W_law_57 : decode m_W_law.2.1 57 = .ok (.aload_n 0, 1) := by decide +kernel
theorem d_W_law_58 : decode m_W_law.2.1 58 = .ok (.iload 5, 2) := by decide +kernel
theorem d_W_law_60 : decode m_W_law.2.1 60 = .ok (.iaload, 1) := by decide +kernel
theorem d_W_law_61 : decode m_W_law.2.1 61 = .ok (.bipush 15, 2) := by decide +kernel
theorem d_W_law_63 : decode m_W_law.2.1 63 = .ok (.iand, 1) := by decide +kernel
theorem d_W_law_64 : decode m_W_law.2.1 64 = .ok (.tableswitch 556 0 12 #[68, 125, 181, 194, 207, 242, 255, 311, 367, 444, 481, 506, 543], 68) := by decide +kernel
theorem d_W_law_132 : decode m_W_law.2.1 132 = .ok (.aload_n 1, 1) := by decide +kernel
theorem d_W_law_133 : decode m_W_law.2.1 133 = .ok (.aload_n 0, 1) := by decide +kernel
theorem d_W_law_134 : decode m_W_law.2.1 134 = .ok (.iload 5, 2) := by decide +kernel
theorem d_W_law_136 : decode m_W_law.2.1 136 = .ok (.iconst 1, 1) := by decide +kernel
theorem d_W_law_137 : decode m_W_law.2.1 137 = .ok (.iadd, 1) := by decide +kernel
theorem d_W_law_138 : decode m_W_law.2.1 138 = .ok (.iaload, 1) := by decide +kernel
theorem d_W_law_139 : decode m_W_law.2.1 139 = .ok (.i2l, 1) := by decide +kernel
theorem d_W_law_140 : decode m_W_law.2.1 140 = .ok (.bipush 32, 2) := by decide +kernel
theorem d_W_law_142 : decode m_W_law.2.1 142 = .ok (.lshl, 1) := by decide +kernel
theorem d_W_law_143 : decode m_W_law.2.1 143 = .ok (.aload_n 0, 1) := by decide +kernel
theorem d_W_law_144 : decode m_W_law.2.1 144 = .ok (.iload 5, 2) := by decide +kernel
theorem d_W_law_146 : decode m_W_law.2.1 146 = .ok (.iconst 2, 1) := by decide +kernel
theorem d_W_law_147 : decode m_W_law.2.1 147 = .ok (.iadd, 1) := by decide +kernel
theorem d_W_law_148 : decode m_W_law.2.1 148 = .ok (.iaload, 1) := by decide +kernel
theorem d_W_law_149 : decode m_W_law.2.1 149 = .ok (.i2l, 1) := by decide +kernel
theorem d_W_law_150 : decode m_W_law.2.1 150 = .ok (.ldc2_w 41, 3) := by decide +kernel
theorem d_W_law_153 : decode m_W_law.2.1 153 = .ok (.land, 1) := by decide +kernel
theorem d_W_law_154 : decode m_W_law.2.1 154 = .ok (.lor, 1) := by decide +kernel
theorem d_W_law_155 : decode m_W_law.2.1 155 = .ok (.invokevirtual 43, 3) := by decide +kernel
theorem d_W_law_158 : decode m_W_law.2.1 158 = .ok (.aload_n 2, 1) := by decide +kernel
theorem d_W_law_159 : decode m_W_law.2.1 159 = .ok (.aload_n 0, 1) := by decide +kernel
theorem d_W_law_160 : decode m_W_law.2.1 160 = .ok (.iload 5, 2) := by decide +kernel
theorem d_W_law_162 : decode m_W_law.2.1 162 = .ok (.iconst 1, 1) := by decide +kernel
theorem d_W_law_163 : decode m_W_law.2.1 163 = .ok (.iadd, 1) := by decide +kernel
theorem d_W_law_164 : decode m_W_law.2.1 164 = .ok (.iaload, 1) := by decide +kernel
theorem d_W_law_165 : decode m_W_law.2.1 165 = .ok (.i2l, 1) := by decide +kernel
theorem d_W_law_166 : decode m_W_law.2.1 166 = .ok (.bipush 32, 2) := by decide +kernel
theorem d_W_law_168 : decode m_W_law.2.1 168 = .ok (.lshl, 1) := by decide +kernel
theorem d_W_law_169 : decode m_W_law.2.1 169 = .ok (.aload_n 0, 1) := by decide +kernel
theorem d_W_law_170 : decode m_W_law.2.1 170 = .ok (.iload 5, 2) := by decide +kernel
theorem d_W_law_172 : decode m_W_law.2.1 172 = .ok (.iconst 2, 1) := by decide +kernel
theorem d_W_law_173 : decode m_W_law.2.1 173 = .ok (.iadd, 1) := by decide +kernel
theorem d_W_law_174 : decode m_W_law.2.1 174 = .ok (.iaload, 1) := by decide +kernel
theorem d_W_law_175 : decode m_W_law.2.1 175 = .ok (.i2l, 1) := by decide +kernel
theorem d_W_law_176 : decode m_W_law.2.1 176 = .ok (.ldc2_w 41, 3) := by decide +kernel
theorem d_W_law_179 : decode m_W_law.2.1 179 = .ok (.land, 1) := by decide +kernel
theorem d_W_law_180 : decode m_W_law.2.1 180 = .ok (.lor, 1) := by decide +kernel
theorem d_W_law_181 : decode m_W_law.2.1 181 = .ok (.invokevirtual 47, 3) := by decide +kernel
theorem d_W_law_184 : decode m_W_law.2.1 184 = .ok (.if_icmp .eq 436, 3) := by decide +kernel
theorem d_W_law_187 : decode m_W_law.2.1 187 = .ok (.iconst 0, 1) := by decide +kernel
theorem d_W_law_188 : decode m_W_law.2.1 188 = .ok (.ireturn, 1) := by decide +kernel
theorem d_W_law_189 : decode m_W_law.2.1 189 = .ok (.aload_n 1, 1) := by decide +kernel
theorem d_W_law_190 : decode m_W_law.2.1 190 = .ok (.aload_n 0, 1) := by decide +kernel
theorem d_W_law_191 : decode m_W_law.2.1 191 = .ok (.iload 5, 2) := by decide +kernel
theorem d_W_law_193 : decode m_W_law.2.1 193 = .ok (.iconst 1, 1) := by decide +kernel
theorem d_W_law_194 : decode m_W_law.2.1 194 = .ok (.iadd, 1) := by decide +kernel
theorem d_W_law_195 : decode m_W_law.2.1 195 = .ok (.iaload, 1) := by decide +kernel
theorem d_W_law_196 : decode m_W_law.2.1 196 = .ok (.aload_n 3, 1) := by decide +kernel
theorem d_W_law_197 : decode m_W_law.2.1 197 = .ok (.invokestatic 48, 3) := by decide +kernel
theorem d_W_law_200 : decode m_W_law.2.1 200 = .ok (.istore 6, 2) := by decide +kernel
theorem d_W_law_202 : decode m_W_law.2.1 202 = .ok (.aload_n 2, 1) := by decide +kernel
theorem d_W_law_203 : decode m_W_law.2.1 203 = .ok (.aload_n 0, 1) := by decide +kernel
theorem d_W_law_204 : decode m_W_law.2.1 204 = .ok (.iload 5, 2) := by decide +kernel
theorem d_W_law_206 : decode m_W_law.2.1 206 = .ok (.iconst 1, 1) := by decide +kernel
theorem d_W_law_207 : decode m_W_law.2.1 207 = .ok (.iadd, 1) := by decide +kernel
theorem d_W_law_208 : decode m_W_law.2.1 208 = .ok (.iaload, 1) := by decide +kernel
theorem d_W_law_209 : decode m_W_law.2.1 209 = .ok (.invokevirtual 51, 3) := by decide +kernel
theorem d_W_law_212 : decode m_W_law.2.1 212 = .ok (.istore 7, 2) := by decide +kernel
theorem d_W_law_214 : decode m_W_law.2.1 214 = .ok (.aload_n 2, 1) := by decide +kernel
theorem d_W_law_215 : decode m_W_law.2.1 215 = .ok (.invokevirtual 52, 3) := by decide +kernel
theorem d_W_law_218 : decode m_W_law.2.1 218 = .ok (.iload 6, 2) := by decide +kernel
theorem d_W_law_220 : decode m_W_law.2.1 220 = .ok (.if_icmp .eq 5, 3) := by decide +kernel
theorem d_W_law_223 : decode m_W_law.2.1 223 = .ok (.iconst 0, 1) := by decide +kernel
theorem d_W_law_224 : decode m_W_law.2.1 224 = .ok (.ireturn, 1) := by decide +kernel
theorem d_W_law_225 : decode m_W_law.2.1 225 = .ok (.iload 6, 2) := by decide +kernel
theorem d_W_law_227 : decode m_W_law.2.1 227 = .ok (.ifCond .ne 15, 3) := by decide +kernel
theorem d_W_law_230 : decode m_W_law.2.1 230 = .ok (.aload_n 3, 1) := by decide +kernel
theorem d_W_law_231 : decode m_W_law.2.1 231 = .ok (.iconst 0, 1) := by decide +kernel
theorem d_W_law_232 : decode m_W_law.2.1 232 = .ok (.laload, 1) := by decide +kernel
theorem d_W_law_233 : decode m_W_law.2.1 233 = .ok (.iload 7, 2) := by decide +kernel
theorem d_W_law_235 : decode m_W_law.2.1 235 = .ok (.i2l, 1) := by decide +kernel
theorem d_W_law_236 : decode m_W_law.2.1 236 = .ok (.lcmp, 1) := by decide +kernel
theorem d_W_law_237 : decode m_W_law.2.1 237 = .ok (.ifCond .eq 5, 3) := by decide +kernel
theorem d_W_law_240 : decode m_W_law.2.1 240 = .ok (.iconst 0, 1) := by decide +kernel
theorem d_W_law_241 : decode m_W_law.2.1 241 = .ok (.ireturn, 1) := by decide +kernel
theorem d_W_law_242 : decode m_W_law.2.1 242 = .ok (.goto 378, 3) := by decide +kernel
theorem d_W_law_245 : decode m_W_law.2.1 245 = .ok (.aload_n 1, 1) := by decide +kernel
theorem d_W_law_246 : decode m_W_law.2.1 246 = .ok (.invokevirtual 56, 3) := by decide +kernel
theorem d_W_law_249 : decode m_W_law.2.1 249 = .ok (.aload_n 2, 1) := by decide +kernel
theorem d_W_law_250 : decode m_W_law.2.1 250 = .ok (.invokevirtual 59, 3) := by decide +kernel
theorem d_W_law_253 : decode m_W_law.2.1 253 = .ok (.if_icmp .eq 367, 3) := by decide +kernel
theorem d_W_law_256 : decode m_W_law.2.1 256 = .ok (.iconst 0, 1) := by decide +kernel
theorem d_W_law_257 : decode m_W_law.2.1 257 = .ok (.ireturn, 1) := by decide +kernel
theorem d_W_law_258 : decode m_W_law.2.1 258 = .ok (.aload_n 1, 1) := by decide +kernel
theorem d_W_law_259 : decode m_W_law.2.1 259 = .ok (.invokevirtual 60, 3) := by decide +kernel
theorem d_W_law_262 : decode m_W_law.2.1 262 = .ok (.aload_n 2, 1) := by decide +kernel
theorem d_W_law_263 : decode m_W_law.2.1 263 = .ok (.invokevirtual 63, 3) := by decide +kernel
theorem d_W_law_266 : decode m_W_law.2.1 266 = .ok (.if_icmp .eq 354, 3) := by decide +kernel
theorem d_W_law_269 : decode m_W_law.2.1 269 = .ok (.iconst 0, 1) := by decide +kernel
theorem d_W_law_270 : decode m_W_law.2.1 270 = .ok (.ireturn, 1) := by decide +kernel
theorem d_W_law_271 : decode m_W_law.2.1 271 = .ok (.aload_n 1, 1) := by decide +kernel
theorem d_W_law_272 : decode m_W_law.2.1 272 = .ok (.aload_n 0, 1) := by decide +kernel
theorem d_W_law_273 : decode m_W_law.2.1 273 = .ok (.iload 5, 2) := by decide +kernel
theorem d_W_law_275 : decode m_W_law.2.1 275 = .ok (.iconst 1, 1) := by decide +kernel
theorem d_W_law_276 : decode m_W_law.2.1 276 = .ok (.iadd, 1) := by decide +kernel
theorem d_W_law_277 : decode m_W_law.2.1 277 = .ok (.iaload, 1) := by decide +kernel
theorem d_W_law_278 : decode m_W_law.2.1 278 = .ok (.i2d, 1) := by decide +kernel
theorem d_W_law_279 : decode m_W_law.2.1 279 = .ok (.ldc2_w 64, 3) := by decide +kernel
theorem d_W_law_282 : decode m_W_law.2.1 282 = .ok (.dmul, 1) := by decide +kernel
theorem d_W_law_283 : decode m_W_law.2.1 283 = .ok (.invokevirtual 66, 3) := by decide +kernel
theorem d_W_law_286 : decode m_W_law.2.1 286 = .ok (.aload_n 2, 1) := by decide +kernel
theorem d_W_law_287 : decode m_W_law.2.1 287 = .ok (.aload_n 0, 1) := by decide +kernel
theorem d_W_law_288 : decode m_W_law.2.1 288 = .ok (.iload 5, 2) := by decide +kernel
theorem d_W_law_290 : decode m_W_law.2.1 290 = .ok (.iconst 1, 1) := by decide +kernel
theorem d_W_law_291 : decode m_W_law.2.1 291 = .ok (.iadd, 1) := by decide +kernel
theorem d_W_law_292 : decode m_W_law.2.1 292 = .ok (.iaload, 1) := by decide +kernel
theorem d_W_law_293 : decode m_W_law.2.1 293 = .ok (.i2d, 1) := by decide +kernel
theorem d_W_law_294 : decode m_W_law.2.1 294 = .ok (.ldc2_w 64, 3) := by decide +kernel
theorem d_W_law_297 : decode m_W_law.2.1 297 = .ok (.dmul, 1) := by decide +kernel
theorem d_W_law_298 : decode m_W_law.2.1 298 = .ok (.invokevirtual 70, 3) := by decide +kernel
theorem d_W_law_301 : decode m_W_law.2.1 301 = .ok (.if_icmp .eq 319, 3) := by decide +kernel
theorem d_W_law_304 : decode m_W_law.2.1 304 = .ok (.iconst 0, 1) := by decide +kernel
theorem d_W_law_305 : decode m_W_law.2.1 305 = .ok (.ireturn, 1) := by decide +kernel
theorem d_W_law_306 : decode m_W_law.2.1 306 = .ok (.aload_n 1, 1) := by decide +kernel
theorem d_W_law_307 : decode m_W_law.2.1 307 = .ok (.invokevirtual 71, 3) := by decide +kernel
theorem d_W_law_310 : decode m_W_law.2.1 310 = .ok (.aload_n 2, 1) := by decide +kernel
theorem d_W_law_311 : decode m_W_law.2.1 311 = .ok (.invokevirtual 74, 3) := by decide +kernel
theorem d_W_law_314 : decode m_W_law.2.1 314 = .ok (.if_icmp .eq 306, 3) := by decide +kernel
theorem d_W_law_317 : decode m_W_law.2.1 317 = .ok (.iconst 0, 1) := by decide +kernel
theorem d_W_law_318 : decode m_W_law.2.1 318 = .ok (.ireturn, 1) := by decide +kernel
theorem d_W_law_319 : decode m_W_law.2.1 319 = .ok (.aload_n 1, 1) := by decide +kernel
theorem d_W_law_320 : decode m_W_law.2.1 320 = .ok (.aload_n 0, 1) := by decide +kernel
theorem d_W_law_321 : decode m_W_law.2.1 321 = .ok (.iload 5, 2) := by decide +kernel
theorem d_W_law_323 : decode m_W_law.2.1 323 = .ok (.iconst 1, 1) := by decide +kernel
theorem d_W_law_324 : decode m_W_law.2.1 324 = .ok (.iadd, 1) := by decide +kernel
theorem d_W_law_325 : decode m_W_law.2.1 325 = .ok (.iaload, 1) := by decide +kernel
theorem d_W_law_326 : decode m_W_law.2.1 326 = .ok (.aload_n 3, 1) := by decide +kernel
theorem d_W_law_327 : decode m_W_law.2.1 327 = .ok (.invokestatic 75, 3) := by decide +kernel
theorem d_W_law_330 : decode m_W_law.2.1 330 = .ok (.istore 6, 2) := by decide +kernel
theorem d_W_law_332 : decode m_W_law.2.1 332 = .ok (.aload_n 2, 1) := by decide +kernel
theorem d_W_law_333 : decode m_W_law.2.1 333 = .ok (.aload_n 0, 1) := by decide +kernel
theorem d_W_law_334 : decode m_W_law.2.1 334 = .ok (.iload 5, 2) := by decide +kernel
theorem d_W_law_336 : decode m_W_law.2.1 336 = .ok (.iconst 1, 1) := by decide +kernel
theorem d_W_law_337 : decode m_W_law.2.1 337 = .ok (.iadd, 1) := by decide +kernel
theorem d_W_law_338 : decode m_W_law.2.1 338 = .ok (.iaload, 1) := by decide +kernel
theorem d_W_law_339 : decode m_W_law.2.1 339 = .ok (.invokevirtual 77, 3) := by decide +kernel
theorem d_W_law_342 : decode m_W_law.2.1 342 = .ok (.istore 7, 2) := by decide +kernel
theorem d_W_law_344 : decode m_W_law.2.1 344 = .ok (.aload_n 2, 1) := by decide +kernel
theorem d_W_law_345 : decode m_W_law.2.1 345 = .ok (.invokevirtual 52, 3) := by decide +kernel
theorem d_W_law_348 : decode m_W_law.2.1 348 = .ok (.iload 6, 2) := by decide +kernel
theorem d_W_law_350 : decode m_W_law.2.1 350 = .ok (.if_icmp .eq 5, 3) := by decide +kernel
theorem d_W_law_353 : decode m_W_law.2.1 353 = .ok (.iconst 0, 1) := by decide +kernel
theorem d_W_law_354 : decode m_W_law.2.1 354 = .ok (.ireturn, 1) := by decide +kernel
theorem d_W_law_355 : decode m_W_law.2.1 355 = .ok (.iload 6, 2) := by decide +kernel
theorem d_W_law_357 : decode m_W_law.2.1 357 = .ok (.ifCond .ne 15, 3) := by decide +kernel
theorem d_W_law_360 : decode m_W_law.2.1 360 = .ok (.aload_n 3, 1) := by decide +kernel
theorem d_W_law_361 : decode m_W_law.2.1 361 = .ok (.iconst 0, 1) := by decide +kernel
theorem d_W_law_362 : decode m_W_law.2.1 362 = .ok (.laload, 1) := by decide +kernel
theorem d_W_law_363 : decode m_W_law.2.1 363 = .ok (.iload 7, 2) := by decide +kernel
theorem d_W_law_365 : decode m_W_law.2.1 365 = .ok (.i2l, 1) := by decide +kernel
theorem d_W_law_366 : decode m_W_law.2.1 366 = .ok (.lcmp, 1) := by decide +kernel
theorem d_W_law_367 : decode m_W_law.2.1 367 = .ok (.ifCond .eq 5, 3) := by decide +kernel
theorem d_W_law_370 : decode m_W_law.2.1 370 = .ok (.iconst 0, 1) := by decide +kernel
theorem d_W_law_371 : decode m_W_law.2.1 371 = .ok (.ireturn, 1) := by decide +kernel
theorem d_W_law_372 : decode m_W_law.2.1 372 = .ok (.goto 248, 3) := by decide +kernel
theorem d_W_law_375 : decode m_W_law.2.1 375 = .ok (.aload_n 1, 1) := by decide +kernel
theorem d_W_law_376 : decode m_W_law.2.1 376 = .ok (.aload_n 0, 1) := by decide +kernel
theorem d_W_law_377 : decode m_W_law.2.1 377 = .ok (.iload 5, 2) := by decide +kernel
theorem d_W_law_379 : decode m_W_law.2.1 379 = .ok (.iconst 1, 1) := by decide +kernel
theorem d_W_law_380 : decode m_W_law.2.1 380 = .ok (.iadd, 1) := by decide +kernel
theorem d_W_law_381 : decode m_W_law.2.1 381 = .ok (.iaload, 1) := by decide +kernel
theorem d_W_law_382 : decode m_W_law.2.1 382 = .ok (.aload_n 3, 1) := by decide +kernel
theorem d_W_law_383 : decode m_W_law.2.1 383 = .ok (.invokestatic 78, 3) := by decide +kernel
theorem d_W_law_386 : decode m_W_law.2.1 386 = .ok (.istore 6, 2) := by decide +kernel
theorem d_W_law_388 : decode m_W_law.2.1 388 = .ok (.aload_n 2, 1) := by decide +kernel
theorem d_W_law_389 : decode m_W_law.2.1 389 = .ok (.aload_n 0, 1) := by decide +kernel
theorem d_W_law_390 : decode m_W_law.2.1 390 = .ok (.iload 5, 2) := by decide +kernel
theorem d_W_law_392 : decode m_W_law.2.1 392 = .ok (.iconst 1, 1) := by decide +kernel
theorem d_W_law_393 : decode m_W_law.2.1 393 = .ok (.iadd, 1) := by decide +kernel
theorem d_W_law_394 : decode m_W_law.2.1 394 = .ok (.iaload, 1) := by decide +kernel
theorem d_W_law_395 : decode m_W_law.2.1 395 = .ok (.invokevirtual 80, 3) := by decide +kernel
theorem d_W_law_398 : decode m_W_law.2.1 398 = .ok (.istore 7, 2) := by decide +kernel
theorem d_W_law_400 : decode m_W_law.2.1 400 = .ok (.aload_n 2, 1) := by decide +kernel
theorem d_W_law_401 : decode m_W_law.2.1 401 = .ok (.invokevirtual 52, 3) := by decide +kernel
theorem d_W_law_404 : decode m_W_law.2.1 404 = .ok (.iload 6, 2) := by decide +kernel
theorem d_W_law_406 : decode m_W_law.2.1 406 = .ok (.if_icmp .eq 5, 3) := by decide +kernel
theorem d_W_law_409 : decode m_W_law.2.1 409 = .ok (.iconst 0, 1) := by decide +kernel
theorem d_W_law_410 : decode m_W_law.2.1 410 = .ok (.ireturn, 1) := by decide +kernel
theorem d_W_law_411 : decode m_W_law.2.1 411 = .ok (.iload 6, 2) := by decide +kernel
theorem d_W_law_413 : decode m_W_law.2.1 413 = .ok (.ifCond .ne 15, 3) := by decide +kernel
theorem d_W_law_416 : decode m_W_law.2.1 416 = .ok (.aload_n 3, 1) := by decide +kernel
theorem d_W_law_417 : decode m_W_law.2.1 417 = .ok (.iconst 0, 1) := by decide +kernel
theorem d_W_law_418 : decode m_W_law.2.1 418 = .ok (.laload, 1) := by decide +kernel
theorem d_W_law_419 : decode m_W_law.2.1 419 = .ok (.iload 7, 2) := by decide +kernel
theorem d_W_law_421 : decode m_W_law.2.1 421 = .ok (.i2l, 1) := by decide +kernel
theorem d_W_law_422 : decode m_W_law.2.1 422 = .ok (.lcmp, 1) := by decide +kernel
theorem d_W_law_423 : decode m_W_law.2.1 423 = .ok (.ifCond .eq 5, 3) := by decide +kernel
theorem d_W_law_426 : decode m_W_law.2.1 426 = .ok (.iconst 0, 1) := by decide +kernel
theorem d_W_law_427 : decode m_W_law.2.1 427 = .ok (.ireturn, 1) := by decide +kernel
theorem d_W_law_428 : decode m_W_law.2.1 428 = .ok (.goto 192, 3) := by decide +kernel
theorem d_W_law_431 : decode m_W_law.2.1 431 = .ok (.aload_n 1, 1) := by decide +kernel
theorem d_W_law_432 : decode m_W_law.2.1 432 = .ok (.aload_n 0, 1) := by decide +kernel
theorem d_W_law_433 : decode m_W_law.2.1 433 = .ok (.iload 5, 2) := by decide +kernel
theorem d_W_law_435 : decode m_W_law.2.1 435 = .ok (.iconst 1, 1) := by decide +kernel
theorem d_W_law_436 : decode m_W_law.2.1 436 = .ok (.iadd, 1) := by decide +kernel
theorem d_W_law_437 : decode m_W_law.2.1 437 = .ok (.iaload, 1) := by decide +kernel
theorem d_W_law_438 : decode m_W_law.2.1 438 = .ok (.aload 4, 2) := by decide +kernel
theorem d_W_law_440 : decode m_W_law.2.1 440 = .ok (.invokestatic 81, 3) := by decide +kernel
theorem d_W_law_443 : decode m_W_law.2.1 443 = .ok (.istore 6, 2) := by decide +kernel
theorem d_W_law_445 : decode m_W_law.2.1 445 = .ok (.aload_n 2, 1) := by decide +kernel
theorem d_W_law_446 : decode m_W_law.2.1 446 = .ok (.aload_n 0, 1) := by decide +kernel
theorem d_W_law_447 : decode m_W_law.2.1 447 = .ok (.iload 5, 2) := by decide +kernel
theorem d_W_law_449 : decode m_W_law.2.1 449 = .ok (.iconst 1, 1) := by decide +kernel
theorem d_W_law_450 : decode m_W_law.2.1 450 = .ok (.iadd, 1) := by decide +kernel
theorem d_W_law_451 : decode m_W_law.2.1 451 = .ok (.iaload, 1) := by decide +kernel
theorem d_W_law_452 : decode m_W_law.2.1 452 = .ok (.invokevirtual 84, 3) := by decide +kernel
theorem d_W_law_455 : decode m_W_law.2.1 455 = .ok (.dstore 7, 2) := by decide +kernel
theorem d_W_law_457 : decode m_W_law.2.1 457 = .ok (.aload_n 2, 1) := by decide +kernel
theorem d_W_law_458 : decode m_W_law.2.1 458 = .ok (.invokevirtual 52, 3) := by decide +kernel
theorem d_W_law_461 : decode m_W_law.2.1 461 = .ok (.iload 6, 2) := by decide +kernel
theorem d_W_law_463 : decode m_W_law.2.1 463 = .ok (.if_icmp .eq 5, 3) := by decide +kernel
theorem d_W_law_466 : decode m_W_law.2.1 466 = .ok (.iconst 0, 1) := by decide +kernel
theorem d_W_law_467 : decode m_W_law.2.1 467 = .ok (.ireturn, 1) := by decide +kernel
theorem d_W_law_468 : decode m_W_law.2.1 468 = .ok (.iload 6, 2) := by decide +kernel
theorem d_W_law_470 : decode m_W_law.2.1 470 = .ok (.ifCond .ne 35, 3) := by decide +kernel
theorem d_W_law_473 : decode m_W_law.2.1 473 = .ok (.aload 4, 2) := by decide +kernel
theorem d_W_law_475 : decode m_W_law.2.1 475 = .ok (.iconst 0, 1) := by decide +kernel
theorem d_W_law_476 : decode m_W_law.2.1 476 = .ok (.daload, 1) := by decide +kernel
theorem d_W_law_477 : decode m_W_law.2.1 477 = .ok (.dload 7, 2) := by decide +kernel
theorem d_W_law_479 : decode m_W_law.2.1 479 = .ok (.dcmp .l, 1) := by decide +kernel
theorem d_W_law_480 : decode m_W_law.2.1 480 = .ok (.ifCond .eq 25, 3) := by decide +kernel
theorem d_W_law_483 : decode m_W_law.2.1 483 = .ok (.aload 4, 2) := by decide +kernel
theorem d_W_law_485 : decode m_W_law.2.1 485 = .ok (.iconst 0, 1) := by decide +kernel
theorem d_W_law_486 : decode m_W_law.2.1 486 = .ok (.daload, 1) := by decide +kernel
theorem d_W_law_487 : decode m_W_law.2.1 487 = .ok (.aload 4, 2) := by decide +kernel
theorem d_W_law_489 : decode m_W_law.2.1 489 = .ok (.iconst 0, 1) := by decide +kernel
theorem d_W_law_490 : decode m_W_law.2.1 490 = .ok (.daload, 1) := by decide +kernel
theorem d_W_law_491 : decode m_W_law.2.1 491 = .ok (.dcmp .l, 1) := by decide +kernel
theorem d_W_law_492 : decode m_W_law.2.1 492 = .ok (.ifCond .eq 11, 3) := by decide +kernel
theorem d_W_law_495 : decode m_W_law.2.1 495 = .ok (.dload 7, 2) := by decide +kernel
theorem d_W_law_497 : decode m_W_law.2.1 497 = .ok (.dload 7, 2) := by decide +kernel
theorem d_W_law_499 : decode m_W_law.2.1 499 = .ok (.dcmp .l, 1) := by decide +kernel
theorem d_W_law_500 : decode m_W_law.2.1 500 = .ok (.ifCond .ne 5, 3) := by decide +kernel
theorem d_W_law_503 : decode m_W_law.2.1 503 = .ok (.iconst 0, 1) := by decide +kernel
theorem d_W_law_504 : decode m_W_law.2.1 504 = .ok (.ireturn, 1) := by decide +kernel
theorem d_W_law_505 : decode m_W_law.2.1 505 = .ok (.goto 115, 3) := by decide +kernel
theorem d_W_law_508 : decode m_W_law.2.1 508 = .ok (.aload_n 1, 1) := by decide +kernel
theorem d_W_law_509 : decode m_W_law.2.1 509 = .ok (.aload_n 0, 1) := by decide +kernel
theorem d_W_law_510 : decode m_W_law.2.1 510 = .ok (.iload 5, 2) := by decide +kernel
theorem d_W_law_512 : decode m_W_law.2.1 512 = .ok (.iconst 1, 1) := by decide +kernel
theorem d_W_law_513 : decode m_W_law.2.1 513 = .ok (.iadd, 1) := by decide +kernel
theorem d_W_law_514 : decode m_W_law.2.1 514 = .ok (.iaload, 1) := by decide +kernel
theorem d_W_law_515 : decode m_W_law.2.1 515 = .ok (.aload_n 0, 1) := by decide +kernel
theorem d_W_law_516 : decode m_W_law.2.1 516 = .ok (.iload 5, 2) := by decide +kernel
theorem d_W_law_518 : decode m_W_law.2.1 518 = .ok (.iconst 2, 1) := by decide +kernel
theorem d_W_law_519 : decode m_W_law.2.1 519 = .ok (.iadd, 1) := by decide +kernel
theorem d_W_law_520 : decode m_W_law.2.1 520 = .ok (.iaload, 1) := by decide +kernel
theorem d_W_law_521 : decode m_W_law.2.1 521 = .ok (.invokevirtual 85, 3) := by decide +kernel
theorem d_W_law_524 : decode m_W_law.2.1 524 = .ok (.aload_n 2, 1) := by decide +kernel
theorem d_W_law_525 : decode m_W_law.2.1 525 = .ok (.aload_n 0, 1) := by decide +kernel
theorem d_W_law_526 : decode m_W_law.2.1 526 = .ok (.iload 5, 2) := by decide +kernel
theorem d_W_law_528 : decode m_W_law.2.1 528 = .ok (.iconst 1, 1) := by decide +kernel
theorem d_W_law_529 : decode m_W_law.2.1 529 = .ok (.iadd, 1) := by decide +kernel
theorem d_W_law_530 : decode m_W_law.2.1 530 = .ok (.iaload, 1) := by decide +kernel
theorem d_W_law_531 : decode m_W_law.2.1 531 = .ok (.aload_n 0, 1) := by decide +kernel
theorem d_W_law_532 : decode m_W_law.2.1 532 = .ok (.iload 5, 2) := by decide +kernel
theorem d_W_law_534 : decode m_W_law.2.1 534 = .ok (.iconst 2, 1) := by decide +kernel
theorem d_W_law_535 : decode m_W_law.2.1 535 = .ok (.iadd, 1) := by decide +kernel
theorem d_W_law_536 : decode m_W_law.2.1 536 = .ok (.iaload, 1) := by decide +kernel
theorem d_W_law_537 : decode m_W_law.2.1 537 = .ok (.invokevirtual 89, 3) := by decide +kernel
theorem d_W_law_540 : decode m_W_law.2.1 540 = .ok (.if_icmp .eq 80, 3) := by decide +kernel
theorem d_W_law_543 : decode m_W_law.2.1 543 = .ok (.iconst 0, 1) := by decide +kernel
theorem d_W_law_544 : decode m_W_law.2.1 544 = .ok (.ireturn, 1) := by decide +kernel
theorem d_W_law_545 : decode m_W_law.2.1 545 = .ok (.aload_n 1, 1) := by decide +kernel
theorem d_W_law_546 : decode m_W_law.2.1 546 = .ok (.aload_n 0, 1) := by decide +kernel
theorem d_W_law_547 : decode m_W_law.2.1 547 = .ok (.iload 5, 2) := by decide +kernel
theorem d_W_law_549 : decode m_W_law.2.1 549 = .ok (.iconst 1, 1) := by decide +kernel
theorem d_W_law_550 : decode m_W_law.2.1 550 = .ok (.iadd, 1) := by decide +kernel
theorem d_W_law_551 : decode m_W_law.2.1 551 = .ok (.iaload, 1) := by decide +kernel
theorem d_W_law_552 : decode m_W_law.2.1 552 = .ok (.invokevirtual 90, 3) := by decide +kernel
theorem d_W_law_555 : decode m_W_law.2.1 555 = .ok (.aload_n 2, 1) := by decide +kernel
theorem d_W_law_556 : decode m_W_law.2.1 556 = .ok (.aload_n 0, 1) := by decide +kernel
theorem d_W_law_557 : decode m_W_law.2.1 557 = .ok (.iload 5, 2) := by decide +kernel
theorem d_W_law_559 : decode m_W_law.2.1 559 = .ok (.iconst 1, 1) := by decide +kernel
theorem d_W_law_560 : decode m_W_law.2.1 560 = .ok (.iadd, 1) := by decide +kernel
theorem d_W_law_561 : decode m_W_law.2.1 561 = .ok (.iaload, 1) := by decide +kernel
theorem d_W_law_562 : decode m_W_law.2.1 562 = .ok (.invokevirtual 93, 3) := by decide +kernel
theorem d_W_law_565 : decode m_W_law.2.1 565 = .ok (.if_icmp .eq 55, 3) := by decide +kernel
theorem d_W_law_568 : decode m_W_law.2.1 568 = .ok (.iconst 0, 1) := by decide +kernel
theorem d_W_law_569 : decode m_W_law.2.1 569 = .ok (.ireturn, 1) := by decide +kernel
theorem d_W_law_570 : decode m_W_law.2.1 570 = .ok (.aload_n 1, 1) := by decide +kernel
theorem d_W_law_571 : decode m_W_law.2.1 571 = .ok (.aload_n 0, 1) := by decide +kernel
theorem d_W_law_572 : decode m_W_law.2.1 572 = .ok (.iload 5, 2) := by decide +kernel
theorem d_W_law_574 : decode m_W_law.2.1 574 = .ok (.iconst 1, 1) := by decide +kernel
theorem d_W_law_575 : decode m_W_law.2.1 575 = .ok (.iadd, 1) := by decide +kernel
theorem d_W_law_576 : decode m_W_law.2.1 576 = .ok (.iaload, 1) := by decide +kernel
theorem d_W_law_577 : decode m_W_law.2.1 577 = .ok (.aload_n 0, 1) := by decide +kernel
theorem d_W_law_578 : decode m_W_law.2.1 578 = .ok (.iload 5, 2) := by decide +kernel
theorem d_W_law_580 : decode m_W_law.2.1 580 = .ok (.iconst 2, 1) := by decide +kernel
theorem d_W_law_581 : decode m_W_law.2.1 581 = .ok (.iadd, 1) := by decide +kernel
theorem d_W_law_582 : decode m_W_law.2.1 582 = .ok (.iaload, 1) := by decide +kernel
theorem d_W_law_583 : decode m_W_law.2.1 583 = .ok (.invokevirtual 94, 3) := by decide +kernel
theorem d_W_law_586 : decode m_W_law.2.1 586 = .ok (.aload_n 2, 1) := by decide +kernel
theorem d_W_law_587 : decode m_W_law.2.1 587 = .ok (.aload_n 0, 1) := by decide +kernel
theorem d_W_law_588 : decode m_W_law.2.1 588 = .ok (.iload 5, 2) := by decide +kernel
theorem d_W_law_590 : decode m_W_law.2.1 590 = .ok (.iconst 1, 1) := by decide +kernel
theorem d_W_law_591 : decode m_W_law.2.1 591 = .ok (.iadd, 1) := by decide +kernel
theorem d_W_law_592 : decode m_W_law.2.1 592 = .ok (.iaload, 1) := by decide +kernel
theorem d_W_law_593 : decode m_W_law.2.1 593 = .ok (.aload_n 0, 1) := by decide +kernel
theorem d_W_law_594 : decode m_W_law.2.1 594 = .ok (.iload 5, 2) := by decide +kernel
theorem d_W_law_596 : decode m_W_law.2.1 596 = .ok (.iconst 2, 1) := by decide +kernel
theorem d_W_law_597 : decode m_W_law.2.1 597 = .ok (.iadd, 1) := by decide +kernel
theorem d_W_law_598 : decode m_W_law.2.1 598 = .ok (.iaload, 1) := by decide +kernel
theorem d_W_law_599 : decode m_W_law.2.1 599 = .ok (.invokevirtual 97, 3) := by decide +kernel
theorem d_W_law_602 : decode m_W_law.2.1 602 = .ok (.if_icmp .eq 18, 3) := by decide +kernel
theorem d_W_law_605 : decode m_W_law.2.1 605 = .ok (.iconst 0, 1) := by decide +kernel
theorem d_W_law_606 : decode m_W_law.2.1 606 = .ok (.ireturn, 1) := by decide +kernel
theorem d_W_law_607 : decode m_W_law.2.1 607 = .ok (.aload_n 1, 1) := by decide +kernel
theorem d_W_law_608 : decode m_W_law.2.1 608 = .ok (.invokevirtual 98, 3) := by decide +kernel
theorem d_W_law_611 : decode m_W_law.2.1 611 = .ok (.aload_n 2, 1) := by decide +kernel
theorem d_W_law_612 : decode m_W_law.2.1 612 = .ok (.invokevirtual 101, 3) := by decide +kernel
theorem d_W_law_615 : decode m_W_law.2.1 615 = .ok (.if_icmp .eq 5, 3) := by decide +kernel
theorem d_W_law_618 : decode m_W_law.2.1 618 = .ok (.iconst 0, 1) := by decide +kernel
theorem d_W_law_619 : decode m_W_law.2.1 619 = .ok (.ireturn, 1) := by decide +kernel
theorem d_W_law_620 : decode m_W_law.2.1 620 = .ok (.iinc 5 3, 3) := by decide +kernel
theorem d_W_law_623 : decode m_W_law.2.1 623 = .ok (.goto (-575), 3) := by decide +kernel
theorem d_W_law_626 : decode m_W_law.2.1 626 = .ok (.iconst 1, 1) := by decide +kernel
theorem d_W_law_627 : decode m_W_law.2.1 627 = .ok (.ireturn, 1) := by decide +kernel
