theorem d_M_readWord_64 : decode m_M_readWord.2.1 64 = .ok (.dup, 1) := by decide +kernel
theorem d_M_readWord_65 : decode m_M_readWord.2.1 65 = .ok (.getfield 281, 3) := by decide +kernel
theorem d_M_readWord_68 : decode m_M_readWord.2.1 68 = .ok (.iconst 1, 1) := by decide +kernel
theorem d_M_readWord_69 : decode m_M_readWord.2.1 69 = .ok (.iadd, 1) := by decide +kernel
theorem d_M_readWord_70 : decode m_M_readWord.2.1 70 = .ok (.putfield 281, 3) := by decide +kernel
theorem d_M_readWord_73 : decode m_M_readWord.2.1 73 = .ok (.goto (-69), 3) := by decide +kernel
theorem d_M_readWord_76 : decode m_M_readWord.2.1 76 = .ok (.aload_n 0, 1) := by decide +kernel
theorem d_M_readWord_77 : decode m_M_readWord.2.1 77 = .ok (.bipush 40, 2) := by decide +kernel
theorem d_M_readWord_79 : decode m_M_readWord.2.1 79 = .ok (.iload_n 1, 1) := by decide +kernel
theorem d_M_readWord_80 : decode m_M_readWord.2.1 80 = .ok (.lload_n 3, 1) := by decide +kernel
theorem d_M_readWord_81 : decode m_M_readWord.2.1 81 = .ok (.invokevirtual 250, 3) := by decide +kernel
theorem d_M_readWord_84 : decode m_M_readWord.2.1 84 = .ok (.iload_n 2, 1) := by decide +kernel
theorem d_M_readWord_85 : decode m_M_readWord.2.1 85 = .ok (.bipush 12, 2) := by decide +kernel
theorem d_M_readWord_87 : decode m_M_readWord.2.1 87 = .ok (.if_icmp .ge 14, 3) := by decide +kernel
theorem d_M_readWord_90 : decode m_M_readWord.2.1 90 = .ok (.aload_n 0, 1) := by decide +kernel
theorem d_M_readWord_91 : decode m_M_readWord.2.1 91 = .ok (.lload_n 3, 1) := by decide +kernel
theorem d_M_readWord_92 : decode m_M_readWord.2.1 92 = .ok (.invokevirtual 307, 3) := by decide +kernel
theorem d_M_readWord_95 : decode m_M_readWord.2.1 95 = .ok (.iconst (-1), 1) := by decide +kernel
theorem d_M_readWord_96 : decode m_M_readWord.2.1 96 = .ok (.if_icmp .eq 5, 3) := by decide +kernel
theorem d_M_readWord_99 : decode m_M_readWord.2.1 99 = .ok (.iconst 0, 1) := by decide +kernel
theorem d_M_readWord_100 : decode m_M_readWord.2.1 100 = .ok (.ireturn, 1) := by decide +kernel
theorem d_M_readWord_101 : decode m_M_readWord.2.1 101 = .ok (.iload_n 2, 1) := by decide +kernel
theorem d_M_readWord_102 : decode m_M_readWord.2.1 102 = .ok (.bipush 8, 2) := by decide +kernel
theorem d_M_readWord_104 : decode m_M_readWord.2.1 104 = .ok (.if_icmp .le 6, 3) := by decide +kernel
theorem d_M_readWord_107 : decode m_M_readWord.2.1 107 = .ok (.bipush 15, 2) := by decide +kernel
theorem d_M_readWord_109 : decode m_M_readWord.2.1 109 = .ok (.ireturn, 1) := by decide +kernel
theorem d_M_readWord_110 : decode m_M_readWord.2.1 110 = .ok (.iconst 0, 1) := by decide +kernel
theorem d_M_readWord_111 : decode m_M_readWord.2.1 111 = .ok (.istore 5, 2) := by decide +kernel
theorem d_M_readWord_113 : decode m_M_readWord.2.1 113 = .ok (.iload 5, 2) := by decide +kernel
theorem d_M_readWord_115 : decode m_M_readWord.2.1 115 = .ok (.aload_n 0, 1) := by decide +kernel
theorem d_M_readWord_116 : decode m_M_readWord.2.1 116 = .ok (.getfield 311, 3) := by decide +kernel
theorem d_M_readWord_119 : decode m_M_readWord.2.1 119 = .ok (.if_icmp .ge 23, 3) := by decide +kernel
theorem d_M_readWord_122 : decode m_M_readWord.2.1 122 = .ok (.aload_n 0, 1) := by decide +kernel
theorem d_M_readWord_123 : decode m_M_readWord.2.1 123 = .ok (.getfield 68, 3) := by decide +kernel
theorem d_M_readWord_126 : decode m_M_readWord.2.1 126 = .ok (.iload 5, 2) := by decide +kernel
theorem d_M_readWord_128 : decode m_M_readWord.2.1 128 = .ok (.laload, 1) := by decide +kernel
theorem d_M_readWord_129 : decode m_M_readWord.2.1 129 = .ok (.lload_n 3, 1) := by decide +kernel
theorem d_M_readWord_130 : decode m_M_readWord.2.1 130 = .ok (.lcmp, 1) := by decide +kernel
theorem d_M_readWord_131 : decode m_M_readWord.2.1 131 = .ok (.ifCond .ne 5, 3) := by decide +kernel
theorem d_M_readWord_134 : decode m_M_readWord.2.1 134 = .ok (.iconst 0, 1) := by decide +kernel
theorem d_M_readWord_135 : decode m_M_readWord.2.1 135 = .ok (.ireturn, 1) := by decide +kernel
theorem d_M_readWord_136 : decode m_M_readWord.2.1 136 = .ok (.iinc 5 1, 3) := by decide +kernel
theorem d_M_readWord_139 : decode m_M_readWord.2.1 139 = .ok (.goto (-26), 3) := by decide +kernel
theorem d_M_readWord_142 : decode m_M_readWord.2.1 142 = .ok (.aload_n 0, 1) := by decide +kernel
theorem d_M_readWord_143 : decode m_M_readWord.2.1 143 = .ok (.getfield 311, 3) := by decide +kernel
theorem d_M_readWord_146 : decode m_M_readWord.2.1 146 = .ok (.bipush 40, 2) := by decide +kernel
theorem d_M_readWord_148 : decode m_M_readWord.2.1 148 = .ok (.if_icmp .ne 6, 3) := by decide +kernel
theorem d_M_readWord_151 : decode m_M_readWord.2.1 151 = .ok (.bipush 7, 2) := by decide +kernel
theorem d_M_readWord_153 : decode m_M_readWord.2.1 153 = .ok (.ireturn, 1) := by decide +kernel
theorem d_M_readWord_154 : decode m_M_readWord.2.1 154 = .ok (.aload_n 0, 1) := by decide +kernel
theorem d_M_readWord_155 : decode m_M_readWord.2.1 155 = .ok (.getfield 68, 3) := by decide +kernel
theorem d_M_readWord_158 : decode m_M_readWord.2.1 158 = .ok (.aload_n 0, 1) := by decide +kernel
theorem d_M_readWord_159 : decode m_M_readWord.2.1 159 = .ok (.getfield 311, 3) := by decide +kernel
theorem d_M_readWord_162 : decode m_M_readWord.2.1 162 = .ok (.lload_n 3, 1) := by decide +kernel
theorem d_M_readWord_163 : decode m_M_readWord.2.1 163 = .ok (.lastore, 1) := by decide +kernel
theorem d_M_readWord_164 : decode m_M_readWord.2.1 164 = .ok (.aload_n 0, 1) := by decide +kernel
theorem d_M_readWord_165 : decode m_M_readWord.2.1 165 = .ok (.dup, 1) := by decide +kernel
theorem d_M_readWord_166 : decode m_M_readWord.2.1 166 = .ok (.getfield 311, 3) := by decide +kernel
theorem d_M_readWord_169 : decode m_M_readWord.2.1 169 = .ok (.iconst 1, 1) := by decide +kernel
theorem d_M_readWord_170 : decode m_M_readWord.2.1 170 = .ok (.iadd, 1) := by decide +kernel
theorem d_M_readWord_171 : decode m_M_readWord.2.1 171 = .ok (.putfield 311, 3) := by decide +kernel
theorem d_M_readWord_174 : decode m_M_readWord.2.1 174 = .ok (.iconst 0, 1) := by decide +kernel
theorem d_M_readWord_175 : decode m_M_readWord.2.1 175 = .ok (.ireturn, 1) := by decide +kernel
theorem d_M_real_0 : decode m_M_real.2.1 0 = .ok (.aload_n 0, 1) := by decide +kernel
theorem d_M_real_1 : decode m_M_real.2.1 1 = .ok (.iload_n 1, 1) := by decide +kernel
theorem d_M_real_2 : decode m_M_real.2.1 2 = .ok (.ifCond .lt 11, 3) := by decide +kernel
theorem d_M_real_5 : decode m_M_real.2.1 5 = .ok (.iload_n 1, 1) := by decide +kernel
theorem d_M_real_6 : decode m_M_real.2.1 6 = .ok (.aload_n 0, 1) := by decide +kernel
theorem d_M_real_7 : decode m_M_real.2.1 7 = .ok (.getfield 247, 3) := by decide +kernel
theorem d_M_real_10 : decode m_M_real.2.1 10 = .ok (.if_icmp .lt 7, 3) := by decide +kernel
theorem d_M_real_13 : decode m_M_real.2.1 13 = .ok (.iconst 1, 1) := by decide +kernel
theorem d_M_real_14 : decode m_M_real.2.1 14 = .ok (.goto 23, 3) := by decide +kernel
theorem d_M_real_17 : decode m_M_real.2.1 17 = .ok (.aload_n 0, 1) := by decide +kernel
theorem d_M_real_18 : decode m_M_real.2.1 18 = .ok (.aload_n 0, 1) := by decide +kernel
theorem d_M_real_19 : decode m_M_real.2.1 19 = .ok (.getfield 247, 3) := by decide +kernel
theorem d_M_real_22 : decode m_M_real.2.1 22 = .ok (.iconst 1, 1) := by decide +kernel
theorem d_M_real_23 : decode m_M_real.2.1 23 = .ok (.isub, 1) := by decide +kernel
theorem d_M_real_24 : decode m_M_real.2.1 24 = .ok (.iload_n 1, 1) := by decide +kernel
theorem d_M_real_25 : decode m_M_real.2.1 25 = .ok (.isub, 1) := by decide +kernel
theorem d_M_real_26 : decode m_M_real.2.1 26 = .ok (.invokevirtual 418, 3) := by decide +kernel
theorem d_M_real_29 : decode m_M_real.2.1 29 = .ok (.ifCond .ne 7, 3) := by decide +kernel
theorem d_M_real_32 : decode m_M_real.2.1 32 = .ok (.iconst 2, 1) := by decide +kernel
theorem d_M_real_33 : decode m_M_real.2.1 33 = .ok (.goto 4, 3) := by decide +kernel
theorem d_M_real_36 : decode m_M_real.2.1 36 = .ok (.iconst 0, 1) := by decide +kernel
theorem d_M_real_37 : decode m_M_real.2.1 37 = .ok (.putfield 242, 3) := by decide +kernel
theorem d_M_real_40 : decode m_M_real.2.1 40 = .ok (.aload_n 0, 1) := by decide +kernel
theorem d_M_real_41 : decode m_M_real.2.1 41 = .ok (.getfield 242, 3) := by decide +kernel
theorem d_M_real_44 : decode m_M_real.2.1 44 = .ok (.ifCond .le 7, 3) := by decide +kernel
theorem d_M_real_47 : decode m_M_real.2.1 47 = .ok (.dconst 0, 1) := by decide +kernel
theorem d_M_real_48 : decode m_M_real.2.1 48 = .ok (.goto 15, 3) := by decide +kernel
theorem d_M_real_51 : decode m_M_real.2.1 51 = .ok (.aload_n 0, 1) := by decide +kernel
theorem d_M_real_52 : decode m_M_real.2.1 52 = .ok (.aload_n 0, 1) := by decide +kernel
theorem d_M_real_53 : decode m_M_real.2.1 53 = .ok (.getfield 247, 3) := by decide +kernel
theorem d_M_real_56 : decode m_M_real.2.1 56 = .ok (.iconst 1, 1) := by decide +kernel
theorem d_M_real_57 : decode m_M_real.2.1 57 = .ok (.isub, 1) := by decide +kernel
theorem d_M_real_58 : decode m_M_real.2.1 58 = .ok (.iload_n 1, 1) := by decide +kernel
theorem d_M_real_59 : decode m_M_real.2.1 59 = .ok (.isub, 1) := by decide +kernel
theorem d_M_real_60 : decode m_M_real.2.1 60 = .ok (.invokevirtual 473, 3) := by decide +kernel
theorem d_M_real_63 : decode m_M_real.2.1 63 = .ok (.dreturn, 1) := by decide +kernel
theorem d_M_roll_0 : decode m_M_roll.2.1 0 = .ok (.lload_n 1, 1) := by decide +kernel
theorem d_M_roll_1 : decode m_M_roll.2.1 1 = .ok (.lconst 0, 1) := by decide +kernel
theorem d_M_roll_2 : decode m_M_roll.2.1 2 = .ok (.lcmp, 1) := by decide +kernel
theorem d_M_roll_3 : decode m_M_roll.2.1 3 = .ok (.ifCond .lt 15, 3) := by decide +kernel
theorem d_M_roll_6 : decode m_M_roll.2.1 6 = .ok (.lload_n 1, 1) := by decide +kernel
theorem d_M_roll_7 : decode m_M_roll.2.1 7 = .ok (.aload_n 0, 1) := by decide +kernel
theorem d_M_roll_8 : decode m_M_roll.2.1 8 = .ok (.getfield 247, 3) := by decide +kernel
theorem d_M_roll_11 : decode m_M_roll.2.1 11 = .ok (.iconst 2, 1) := by decide +kernel
theorem d_M_roll_12 : decode m_M_roll.2.1 12 = .ok (.isub, 1) := by decide +kernel
theorem d_M_roll_13 : decode m_M_roll.2.1 13 = .ok (.i2l, 1) := by decide +kernel
theorem d_M_roll_14 : decode m_M_roll.2.1 14 = .ok (.lcmp, 1) := by decide +kernel
theorem d_M_roll_15 : decode m_M_roll.2.1 15 = .ok (.ifCond .le 5, 3) := by decide +kernel
theorem d_M_roll_18 : decode m_M_roll.2.1 18 = .ok (.iconst 4, 1) := by decide +kernel
theorem d_M_roll_19 : decode m_M_roll.2.1 19 = .ok (.ireturn, 1) := by decide +kernel
theorem d_M_roll_20 : decode m_M_roll.2.1 20 = .ok (.aload_n 0, 1) := by decide +kernel
theorem d_M_roll_21 : decode m_M_roll.2.1 21 = .ok (.dup, 1) := by decide +kernel
theorem d_M_roll_22 : decode m_M_roll.2.1 22 = .ok (.getfield 247, 3) := by decide +kernel
theorem d_M_roll_25 : decode m_M_roll.2.1 25 = .ok (.iconst 2, 1) := by decide +kernel
theorem d_M_roll_26 : decode m_M_roll.2.1 26 = .ok (.isub, 1) := by decide +kernel
theorem d_M_roll_27 : decode m_M_roll.2.1 27 = .ok (.putfield 247, 3) := by decide +kernel
theorem d_M_roll_30 : decode m_M_roll.2.1 30 = .ok (.lload_n 1, 1) := by decide +kernel
theorem d_M_roll_31 : decode m_M_roll.2.1 31 = .ok (.l2i, 1) := by decide +kernel
theorem d_M_roll_32 : decode m_M_roll.2.1 32 = .ok (.istore 5, 2) := by decide +kernel
theorem d_M_roll_34 : decode m_M_roll.2.1 34 = .ok (.iconst 0, 1) := by decide +kernel
theorem d_M_roll_35 : decode m_M_roll.2.1 35 = .ok (.istore 6, 2) := by decide +kernel
theorem d_M_roll_37 : decode m_M_roll.2.1 37 = .ok (.iload 6, 2) := by decide +kernel
theorem d_M_roll_39 : decode m_M_roll.2.1 39 = .ok (.iload 5, 2) := by decide +kernel
theorem d_M_roll_41 : decode m_M_roll.2.1 41 = .ok (.if_icmp .ge 29, 3) := by decide +kernel
theorem d_M_roll_44 : decode m_M_roll.2.1 44 = .ok (.aload_n 0, 1) := by decide +kernel
theorem d_M_roll_45 : decode m_M_roll.2.1 45 = .ok (.sipush 1170, 3) := by decide +kernel
theorem d_M_roll_48 : decode m_M_roll.2.1 48 = .ok (.iload 6, 2) := by decide +kernel
theorem d_M_roll_50 : decode m_M_roll.2.1 50 = .ok (.iadd, 1) := by decide +kernel
theorem d_M_roll_51 : decode m_M_roll.2.1 51 = .ok (.aload_n 0, 1) := by decide +kernel
theorem d_M_roll_52 : decode m_M_roll.2.1 52 = .ok (.getfield 247, 3) := by decide +kernel
theorem d_M_roll_55 : decode m_M_roll.2.1 55 = .ok (.iload 5, 2) := by decide +kernel
theorem d_M_roll_57 : decode m_M_roll.2.1 57 = .ok (.isub, 1) := by decide +kernel
theorem d_M_roll_58 : decode m_M_roll.2.1 58 = .ok (.iload 6, 2) := by decide +kernel
theorem d_M_roll_60 : decode m_M_roll.2.1 60 = .ok (.iadd, 1) := by decide +kernel
theorem d_M_roll_61 : decode m_M_roll.2.1 61 = .ok (.invokevirtual 254, 3) := by decide +kernel
theorem d_M_roll_64 : decode m_M_roll.2.1 64 = .ok (.iinc 6 1, 3) := by decide +kernel
theorem d_M_roll_67 : decode m_M_roll.2.1 67 = .ok (.goto (-30), 3) := by decide +kernel
theorem d_M_roll_70 : decode m_M_roll.2.1 70 = .ok (.iconst 0, 1) := by decide +kernel
theorem d_M_roll_71 : decode m_M_roll.2.1 71 = .ok (.istore 6, 2) := by decide +kernel
theorem d_M_roll_73 : decode m_M_roll.2.1 73 = .ok (.iload 6, 2) := by decide +kernel
theorem d_M_roll_75 : decode m_M_roll.2.1 75 = .ok (.iload 5, 2) := by decide +kernel
theorem d_M_roll_77 : decode m_M_roll.2.1 77 = .ok (.if_icmp .ge 39, 3) := by decide +kernel
theorem d_M_roll_80 : decode m_M_roll.2.1 80 = .ok (.aload_n 0, 1) := by decide +kernel
theorem d_M_roll_81 : decode m_M_roll.2.1 81 = .ok (.aload_n 0, 1) := by decide +kernel
theorem d_M_roll_82 : decode m_M_roll.2.1 82 = .ok (.getfield 247, 3) := by decide +kernel
theorem d_M_roll_85 : decode m_M_roll.2.1 85 = .ok (.iload 5, 2) := by decide +kernel
theorem d_M_roll_87 : decode m_M_roll.2.1 87 = .ok (.isub, 1) := by decide +kernel
theorem d_M_roll_88 : decode m_M_roll.2.1 88 = .ok (.iload 6, 2) := by decide +kernel
theorem d_M_roll_90 : decode m_M_roll.2.1 90 = .ok (.i2l, 1) := by decide +kernel
theorem d_M_roll_91 : decode m_M_roll.2.1 91 = .ok (.lload_n 3, 1) := by decide +kernel
theorem d_M_roll_92 : decode m_M_roll.2.1 92 = .ok (.lload_n 1, 1) := by decide +kernel
theorem d_M_roll_93 : decode m_M_roll.2.1 93 = .ok (.lrem, 1) := by decide +kernel
theorem d_M_roll_94 : decode m_M_roll.2.1 94 = .ok (.ladd, 1) := by decide +kernel
theorem d_M_roll_95 : decode m_M_roll.2.1 95 = .ok (.lload_n 1, 1) := by decide +kernel
theorem d_M_roll_96 : decode m_M_roll.2.1 96 = .ok (.ladd, 1) := by decide +kernel
theorem d_M_roll_97 : decode m_M_roll.2.1 97 = .ok (.lload_n 1, 1) := by decide +kernel
theorem d_M_roll_98 : decode m_M_roll.2.1 98 = .ok (.lrem, 1) := by decide +kernel
theorem d_M_roll_99 : decode m_M_roll.2.1 99 = .ok (.l2i, 1) := by decide +kernel
theorem d_M_roll_100 : decode m_M_roll.2.1 100 = .ok (.iadd, 1) := by decide +kernel
theorem d_M_roll_101 : decode m_M_roll.2.1 101 = .ok (.sipush 1170, 3) := by decide +kernel
theorem d_M_roll_104 : decode m_M_roll.2.1 104 = .ok (.iload 6, 2) := by decide +kernel
theorem d_M_roll_106 : decode m_M_roll.2.1 106 = .ok (.iadd, 1) := by decide +kernel
theorem d_M_roll_107 : decode m_M_roll.2.1 107 = .ok (.invokevirtual 254, 3) := by decide +kernel
theorem d_M_roll_110 : decode m_M_roll.2.1 110 = .ok (.iinc 6 1, 3) := by decide +kernel
theorem d_M_roll_113 : decode m_M_roll.2.1 113 = .ok (.goto (-40), 3) := by decide +kernel
theorem d_M_roll_116 : decode m_M_roll.2.1 116 = .ok (.iconst 0, 1) := by decide +kernel
theorem d_M_roll_117 : decode m_M_roll.2.1 117 = .ok (.ireturn, 1) := by decide +kernel
theorem d_M_runArray_0 : decode m_M_runArray.2.1 0 = .ok (.aload_n 0, 1) := by decide +kernel
theorem d_M_runArray_1 : decode m_M_runArray.2.1 1 = .ok (.getfield 349, 3) := by decide +kernel
theorem d_M_runArray_4 : decode m_M_runArray.2.1 4 = .ok (.bipush 8, 2) := by decide +kernel
theorem d_M_runArray_6 : decode m_M_runArray.2.1 6 = .ok (.if_icmp .ne 6, 3) := by decide +kernel
theorem d_M_runArray_9 : decode m_M_runArray.2.1 9 = .ok (.bipush 12, 2) := by decide +kernel
theorem d_M_runArray_11 : decode m_M_runArray.2.1 11 = .ok (.ireturn, 1) := by decide +kernel
theorem d_M_runArray_12 : decode m_M_runArray.2.1 12 = .ok (.aload_n 0, 1) := by decide +kernel
theorem d_M_runArray_13 : decode m_M_runArray.2.1 13 = .ok (.iconst 1, 1) := by decide +kernel
theorem d_M_runArray_14 : decode m_M_runArray.2.1 14 = .ok (.lload_n 1, 1) := by decide +kernel
theorem d_M_runArray_15 : decode m_M_runArray.2.1 15 = .ok (.invokevirtual 352, 3) := by decide +kernel
theorem d_M_runArray_18 : decode m_M_runArray.2.1 18 = .ok (.iconst 0, 1) := by decide +kernel
theorem d_M_runArray_19 : decode m_M_runArray.2.1 19 = .ok (.ireturn, 1) := by decide +kernel
theorem d_M_suits_0 : decode m_M_suits.2.1 0 = .ok (.iload_n 2, 1) := by decide +kernel
theorem d_M_suits_1 : decode m_M_suits.2.1 1 = .ok (.bipush 9, 2) := by decide +kernel
theorem d_M_suits_3 : decode m_M_suits.2.1 3 = .ok (.if_icmp .eq 46, 3) := by decide +kernel
theorem d_M_suits_6 : decode m_M_suits.2.1 6 = .ok (.iload_n 2, 1) := by decide +kernel
theorem d_M_suits_7 : decode m_M_suits.2.1 7 = .ok (.iconst 2, 1) := by decide +kernel
theorem d_M_suits_8 : decode m_M_suits.2.1 8 = .ok (.if_icmp .ne 14, 3) := by decide +kernel
theorem d_M_suits_11 : decode m_M_suits.2.1 11 = .ok (.aload_n 0, 1) := by decide +kernel
theorem d_M_suits_12 : decode m_M_suits.2.1 12 = .ok (.iload_n 1, 1) := by decide +kernel
theorem d_M_suits_13 : decode m_M_suits.2.1 13 = .ok (.invokevirtual 418, 3) := by decide +kernel
theorem d_M_suits_16 : decode m_M_suits.2.1 16 = .ok (.ifCond .eq 37, 3) := by decide +kernel
theorem d_M_suits_19 : decode m_M_suits.2.1 19 = .ok (.goto 30, 3) := by decide +kernel
theorem d_M_suits_22 : decode m_M_suits.2.1 22 = .ok (.iload_n 2, 1) := by decide +kernel
theorem d_M_suits_23 : decode m_M_suits.2.1 23 = .ok (.iconst 5, 1) := by decide +kernel
theorem d_M_suits_24 : decode m_M_suits.2.1 24 = .ok (.if_icmp .ne 14, 3) := by decide +kernel
theorem d_M_suits_27 : decode m_M_suits.2.1 27 = .ok (.aload_n 0, 1) := by decide +kernel
theorem d_M_suits_28 : decode m_M_suits.2.1 28 = .ok (.iload_n 1, 1) := by decide +kernel
theorem d_M_suits_29 : decode m_M_suits.2.1 29 = .ok (.invokevirtual 378, 3) := by decide +kernel
theorem d_M_suits_32 : decode m_M_suits.2.1 32 = .ok (.ifCond .eq 21, 3) := by decide +kernel
theorem d_M_suits_35 : decode m_M_suits.2.1 35 = .ok (.goto 14, 3) := by decide +kernel
theorem d_M_suits_38 : decode m_M_suits.2.1 38 = .ok (.aload_n 0, 1) := by decide +kernel
theorem d_M_suits_39 : decode m_M_suits.2.1 39 = .ok (.iload_n 1, 1) := by decide +kernel
theorem d_M_suits_40 : decode m_M_suits.2.1 40 = .ok (.invokevirtual 421, 3) := by decide +kernel
theorem d_M_suits_43 : decode m_M_suits.2.1 43 = .ok (.iload_n 2, 1) := by decide +kernel
theorem d_M_suits_44 : decode m_M_suits.2.1 44 = .ok (.iconst 1, 1) := by decide +kernel
theorem d_M_suits_45 : decode m_M_suits.2.1 45 = .ok (.isub, 1) := by decide +kernel
theorem d_M_suits_46 : decode m_M_suits.2.1 46 = .ok (.if_icmp .ne 7, 3) := by decide +kernel
theorem d_M_suits_49 : decode m_M_suits.2.1 49 = .ok (.iconst 1, 1) := by decide +kernel
theorem d_M_suits_50 : decode m_M_suits.2.1 50 = .ok (.goto 4, 3) := by decide +kernel
theorem d_M_suits_53 : decode m_M_suits.2.1 53 = .ok (.iconst 0, 1) := by decide +kernel
theorem d_M_suits_54 : decode m_M_suits.2.1 54 = .ok (.ireturn, 1) := by decide +kernel
theorem d_M_suitsOther_0 : decode m_M_suitsOther.2.1 0 = .ok (.iload_n 1, 1) := by decide +kernel
theorem d_M_suitsOther_1 : decode m_M_suitsOther.2.1 1 = .ok (.bipush 29, 2) := by decide +kernel
theorem d_M_suitsOther_3 : decode m_M_suitsOther.2.1 3 = .ok (.if_icmp .lt 21, 3) := by decide +kernel
theorem d_M_suitsOther_6 : decode m_M_suitsOther.2.1 6 = .ok (.iload_n 1, 1) := by decide +kernel
theorem d_M_suitsOther_7 : decode m_M_suitsOther.2.1 7 = .ok (.bipush 40, 2) := by decide +kernel
theorem d_M_suitsOther_9 : decode m_M_suitsOther.2.1 9 = .ok (.if_icmp .gt 15, 3) := by decide +kernel
theorem d_M_suitsOther_12 : decode m_M_suitsOther.2.1 12 = .ok (.iload_n 1, 1) := by decide +kernel
theorem d_M_suitsOther_13 : decode m_M_suitsOther.2.1 13 = .ok (.bipush 31, 2) := by decide +kernel
theorem d_M_suitsOther_15 : decode m_M_suitsOther.2.1 15 = .ok (.if_icmp .le 11, 3) := by decide +kernel
theorem d_M_suitsOther_18 : decode m_M_suitsOther.2.1 18 = .ok (.iload_n 1, 1) := by decide +kernel
theorem d_M_suitsOther_19 : decode m_M_suitsOther.2.1 19 = .ok (.bipush 38, 2) := by decide +kernel
theorem d_M_suitsOther_21 : decode m_M_suitsOther.2.1 21 = .ok (.if_icmp .ge 5, 3) := by decide +kernel
theorem d_M_suitsOther_24 : decode m_M_suitsOther.2.1 24 = .ok (.iconst 1, 1) := by decide +kernel
theorem d_M_suitsOther_25 : decode m_M_suitsOther.2.1 25 = .ok (.ireturn, 1) := by decide +kernel
theorem d_M_suitsOther_26 : decode m_M_suitsOther.2.1 26 = .ok (.aload_n 0, 1) := by decide +kernel
theorem d_M_suitsOther_27 : decode m_M_suitsOther.2.1 27 = .ok (.getfield 247, 3) := by decide +kernel
theorem d_M_suitsOther_30 : decode m_M_suitsOther.2.1 30 = .ok (.iconst 1, 1) := by decide +kernel
theorem d_M_suitsOther_31 : decode m_M_suitsOther.2.1 31 = .ok (.isub, 1) := by decide +kernel
theorem d_M_suitsOther_32 : decode m_M_suitsOther.2.1 32 = .ok (.istore_n 2, 1) := by decide +kernel
theorem d_M_suitsOther_33 : decode m_M_suitsOther.2.1 33 = .ok (.aload_n 0, 1) := by decide +kernel
theorem d_M_suitsOther_34 : decode m_M_suitsOther.2.1 34 = .ok (.iload_n 1, 1) := by decide +kernel
theorem d_M_suitsOther_35 : decode m_M_suitsOther.2.1 35 = .ok (.bipush 40, 2) := by decide +kernel
theorem d_M_suitsOther_37 : decode m_M_suitsOther.2.1 37 = .ok (.if_icmp .ne 9, 3) := by decide +kernel
theorem d_M_suitsOther_40 : decode m_M_suitsOther.2.1 40 = .ok (.iload_n 2, 1) := by decide +kernel
theorem d_M_suitsOther_41 : decode m_M_suitsOther.2.1 41 = .ok (.iconst 2, 1) := by decide +kernel
theorem d_M_suitsOther_42 : decode m_M_suitsOther.2.1 42 = .ok (.isub, 1) := by decide +kernel
theorem d_M_suitsOther_43 : decode m_M_suitsOther.2.1 43 = .ok (.goto 16, 3) := by decide +kernel
theorem d_M_suitsOther_46 : decode m_M_suitsOther.2.1 46 = .ok (.iload_n 1, 1) := by decide +kernel
theorem d_M_suitsOther_47 : decode m_M_suitsOther.2.1 47 = .ok (.bipush 39, 2) := by decide +kernel
theorem d_M_suitsOther_49 : decode m_M_suitsOther.2.1 49 = .ok (.if_icmp .ne 9, 3) := by decide +kernel
theorem d_M_suitsOther_52 : decode m_M_suitsOther.2.1 52 = .ok (.iload_n 2, 1) := by decide +kernel
theorem d_M_suitsOther_53 : decode m_M_suitsOther.2.1 53 = .ok (.iconst 1, 1) := by decide +kernel
theorem d_M_suitsOther_54 : decode m_M_suitsOther.2.1 54 = .ok (.isub, 1) := by decide +kernel
theorem d_M_suitsOther_55 : decode m_M_suitsOther.2.1 55 = .ok (.goto 4, 3) := by decide +kernel
theorem d_M_suitsOther_58 : decode m_M_suitsOther.2.1 58 = .ok (.iload_n 2, 1) := by decide +kernel
theorem d_M_suitsOther_59 : decode m_M_suitsOther.2.1 59 = .ok (.invokevirtual 421, 3) := by decide +kernel
theorem d_M_suitsOther_62 : decode m_M_suitsOther.2.1 62 = .ok (.istore_n 3, 1) := by decide +kernel
theorem d_M_suitsOther_63 : decode m_M_suitsOther.2.1 63 = .ok (.iload_n 1, 1) := by decide +kernel
theorem d_M_suitsOther_64 : decode m_M_suitsOther.2.1 64 = .ok (.bipush 40, 2) := by decide +kernel
theorem d_M_suitsOther_66 : decode m_M_suitsOther.2.1 66 = .ok (.if_icmp .ne 13, 3) := by decide +kernel
theorem d_M_suitsOther_69 : decode m_M_suitsOther.2.1 69 = .ok (.aload_n 0, 1) := by decide +kernel
theorem d_M_suitsOther_70 : decode m_M_suitsOther.2.1 70 = .ok (.iload_n 2, 1) := by decide +kernel
theorem d_M_suitsOther_71 : decode m_M_suitsOther.2.1 71 = .ok (.iconst 1, 1) := by decide +kernel
theorem d_M_suitsOther_72 : decode m_M_suitsOther.2.1 72 = .ok (.isub, 1) := by decide +kernel
theorem d_M_suitsOther_73 : decode m_M_suitsOther.2.1 73 = .ok (.invokevirtual 421, 3) := by decide +kernel
theorem d_M_suitsOther_76 : decode m_M_suitsOther.2.1 76 = .ok (.goto 8, 3) := by decide +kernel
theorem d_M_suitsOther_79 : decode m_M_suitsOther.2.1 79 = .ok (.aload_n 0, 1) := by decide +kernel
theorem d_M_suitsOther_80 : decode m_M_suitsOther.2.1 80 = .ok (.iload_n 2, 1) := by decide +kernel
theorem d_M_suitsOther_81 : decode m_M_suitsOther.2.1 81 = .ok (.invokevirtual 421, 3) := by decide +kernel
theorem d_M_suitsOther_84 : decode m_M_suitsOther.2.1 84 = .ok (.istore 4, 2) := by decide +kernel
theorem d_M_suitsOther_86 : decode m_M_suitsOther.2.1 86 = .ok (.iload_n 1, 1) := by decide +kernel
theorem d_M_suitsOther_87 : decode m_M_suitsOther.2.1 87 = .ok (.bipush 29, 2) := by decide +kernel
theorem d_M_suitsOther_89 : decode m_M_suitsOther.2.1 89 = .ok (.if_icmp .eq 9, 3) := by decide +kernel
theorem d_M_suitsOther_92 : decode m_M_suitsOther.2.1 92 = .ok (.iload_n 1, 1) := by decide +kernel
theorem d_M_suitsOther_93 : decode m_M_suitsOther.2.1 93 = .ok (.bipush 30, 2) := by decide +kernel
theorem d_M_suitsOther_95 : decode m_M_suitsOther.2.1 95 = .ok (.if_icmp .ne 29, 3) := by decide +kernel
theorem d_M_suitsOther_98 : decode m_M_suitsOther.2.1 98 = .ok (.iload_n 3, 1) := by decide +kernel
theorem d_M_suitsOther_99 : decode m_M_suitsOther.2.1 99 = .ok (.iconst 2, 1) := by decide +kernel
theorem d_M_suitsOther_100 : decode m_M_suitsOther.2.1 100 = .ok (.if_icmp .eq 7, 3) := by decide +kernel
theorem d_M_suitsOther_103 : decode m_M_suitsOther.2.1 103 = .ok (.iload_n 3, 1) := by decide +kernel
theorem d_M_suitsOther_104 : decode m_M_suitsOther.2.1 104 = .ok (.ifCond .ne 18, 3) := by decide +kernel
theorem d_M_suitsOther_107 : decode m_M_suitsOther.2.1 107 = .ok (.aload_n 0, 1) := by decide +kernel
theorem d_M_suitsOther_108 : decode m_M_suitsOther.2.1 108 = .ok (.iload_n 2, 1) := by decide +kernel
theorem d_M_suitsOther_109 : decode m_M_suitsOther.2.1 109 = .ok (.iconst 1, 1) := by decide +kernel
theorem d_M_suitsOther_110 : decode m_M_suitsOther.2.1 110 = .ok (.isub, 1) := by decide +kernel
theorem d_M_suitsOther_111 : decode m_M_suitsOther.2.1 111 = .ok (.invokevirtual 421, 3) := by decide +kernel
theorem d_M_suitsOther_114 : decode m_M_suitsOther.2.1 114 = .ok (.iload_n 3, 1) := by decide +kernel
theorem d_M_suitsOther_115 : decode m_M_suitsOther.2.1 115 = .ok (.if_icmp .ne 7, 3) := by decide +kernel
theorem d_M_suitsOther_118 : decode m_M_suitsOther.2.1 118 = .ok (.iconst 1, 1) := by decide +kernel
theorem d_M_suitsOther_119 : decode m_M_suitsOther.2.1 119 = .ok (.goto 4, 3) := by decide +kernel
theorem d_M_suitsOther_122 : decode m_M_suitsOther.2.1 122 = .ok (.iconst 0, 1) := by decide +kernel
theorem d_M_suitsOther_123 : decode m_M_suitsOther.2.1 123 = .ok (.ireturn, 1) := by decide +kernel
theorem d_M_suitsOther_124 : decode m_M_suitsOther.2.1 124 = .ok (.iload_n 1, 1) := by decide +kernel
theorem d_M_suitsOther_125 : decode m_M_suitsOther.2.1 125 = .ok (.bipush 31, 2) := by decide +kernel
theorem d_M_suitsOther_127 : decode m_M_suitsOther.2.1 127 = .ok (.if_icmp .ne 18, 3) := by decide +kernel
theorem d_M_suitsOther_130 : decode m_M_suitsOther.2.1 130 = .ok (.iload_n 3, 1) := by decide +kernel
theorem d_M_suitsOther_131 : decode m_M_suitsOther.2.1 131 = .ok (.iconst 2, 1) := by decide +kernel
theorem d_M_suitsOther_132 : decode m_M_suitsOther.2.1 132 = .ok (.if_icmp .eq 7, 3) := by decide +kernel
theorem d_M_suitsOther_135 : decode m_M_suitsOther.2.1 135 = .ok (.iload_n 3, 1) := by decide +kernel
theorem d_M_suitsOther_136 : decode m_M_suitsOther.2.1 136 = .ok (.ifCond .ne 7, 3) := by decide +kernel
theorem d_M_suitsOther_139 : decode m_M_suitsOther.2.1 139 = .ok (.iconst 1, 1) := by decide +kernel
theorem d_M_suitsOther_140 : decode m_M_suitsOther.2.1 140 = .ok (.goto 4, 3) := by decide +kernel
theorem d_M_suitsOther_143 : decode m_M_suitsOther.2.1 143 = .ok (.iconst 0, 1) := by decide +kernel
theorem d_M_suitsOther_144 : decode m_M_suitsOther.2.1 144 = .ok (.ireturn, 1) := by decide +kernel
theorem d_M_suitsOther_145 : decode m_M_suitsOther.2.1 145 = .ok (.iload_n 1, 1) := by decide +kernel
theorem d_M_suitsOther_146 : decode m_M_suitsOther.2.1 146 = .ok (.bipush 38, 2) := by decide +kernel
theorem d_M_suitsOther_148 : decode m_M_suitsOther.2.1 148 = .ok (.if_icmp .ne 20, 3) := by decide +kernel
theorem d_M_suitsOther_151 : decode m_M_suitsOther.2.1 151 = .ok (.iload_n 3, 1) := by decide +kernel
theorem d_M_suitsOther_152 : decode m_M_suitsOther.2.1 152 = .ok (.iconst 5, 1) := by decide +kernel
theorem d_M_suitsOther_153 : decode m_M_suitsOther.2.1 153 = .ok (.if_icmp .eq 9, 3) := by decide +kernel
theorem d_M_suitsOther_156 : decode m_M_suitsOther.2.1 156 = .ok (.iload_n 3, 1) := by decide +kernel
theorem d_M_suitsOther_157 : decode m_M_suitsOther.2.1 157 = .ok (.bipush 6, 2) := by decide +kernel
theorem d_M_suitsOther_159 : decode m_M_suitsOther.2.1 159 = .ok (.if_icmp .ne 7, 3) := by decide +kernel
theorem d_M_suitsOther_162 : decode m_M_suitsOther.2.1 162 = .ok (.iconst 1, 1) := by decide +kernel
theorem d_M_suitsOther_163 : decode m_M_suitsOther.2.1 163 = .ok (.goto 4, 3) := by decide +kernel
theorem d_M_suitsOther_166 : decode m_M_suitsOther.2.1 166 = .ok (.iconst 0, 1) := by decide +kernel
theorem d_M_suitsOther_167 : decode m_M_suitsOther.2.1 167 = .ok (.ireturn, 1) := by decide +kernel
theorem d_M_suitsOther_168 : decode m_M_suitsOther.2.1 168 = .ok (.iload_n 3, 1) := by decide +kernel
theorem d_M_suitsOther_169 : decode m_M_suitsOther.2.1 169 = .ok (.iconst 5, 1) := by decide +kernel
theorem d_M_suitsOther_170 : decode m_M_suitsOther.2.1 170 = .ok (.if_icmp .ne 8, 3) := by decide +kernel
theorem d_M_suitsOther_173 : decode m_M_suitsOther.2.1 173 = .ok (.iload 4, 2) := by decide +kernel
theorem d_M_suitsOther_175 : decode m_M_suitsOther.2.1 175 = .ok (.ifCond .eq 15, 3) := by decide +kernel
theorem d_M_suitsOther_178 : decode m_M_suitsOther.2.1 178 = .ok (.iload_n 3, 1) := by decide +kernel
theorem d_M_suitsOther_179 : decode m_M_suitsOther.2.1 179 = .ok (.bipush 6, 2) := by decide +kernel
theorem d_M_suitsOther_181 : decode m_M_suitsOther.2.1 181 = .ok (.if_icmp .ne 13, 3) := by decide +kernel
theorem d_M_suitsOther_184 : decode m_M_suitsOther.2.1 184 = .ok (.iload 4, 2) := by decide +kernel
theorem d_M_suitsOther_186 : decode m_M_suitsOther.2.1 186 = .ok (.iconst 3, 1) := by decide +kernel
theorem d_M_suitsOther_187 : decode m_M_suitsOther.2.1 187 = .ok (.if_icmp .ne 7, 3) := by decide +kernel
theorem d_M_suitsOther_190 : decode m_M_suitsOther.2.1 190 = .ok (.iconst 1, 1) := by decide +kernel
theorem d_M_suitsOther_191 : decode m_M_suitsOther.2.1 191 = .ok (.goto 4, 3) := by decide +kernel
theorem d_M_suitsOther_194 : decode m_M_suitsOther.2.1 194 = .ok (.iconst 0, 1) := by decide +kernel
theorem d_M_suitsOther_195 : decode m_M_suitsOther.2.1 195 = .ok (.ireturn, 1) := by decide +kernel
theorem d_M_begins_0 : decode m_M_begins.2.1 0 = .ok (.aload_n 0, 1) := by decide +kernel
theorem d_M_begins_1 : decode m_M_begins.2.1 1 = .ok (.getfield 247, 3) := by decide +kernel
theorem d_M_begins_4 : decode m_M_begins.2.1 4 = .ok (.iconst 1, 1) := by decide +kernel
theorem d_M_begins_5 : decode m_M_begins.2.1 5 = .ok (.isub, 1) := by decide +kernel
theorem d_M_begins_6 : decode m_M_begins.2.1 6 = .ok (.istore_n 2, 1) := by decide +kernel
theorem d_M_begins_7 : decode m_M_begins.2.1 7 = .ok (.aload_n 0, 1) := by decide +kernel
theorem d_M_begins_8 : decode m_M_begins.2.1 8 = .ok (.getfield 13, 3) := by decide +kernel
theorem d_M_begins_11 : decode m_M_begins.2.1 11 = .ok (.iload_n 2, 1) := by decide +kernel
theorem d_M_begins_12 : decode m_M_begins.2.1 12 = .ok (.laload, 1) := by decide +kernel
theorem d_M_begins_13 : decode m_M_begins.2.1 13 = .ok (.lstore_n 3, 1) := by decide +kernel
theorem d_M_begins_14 : decode m_M_begins.2.1 14 = .ok (.iload_n 2, 1) := by decide +kernel
theorem d_M_begins_15 : decode m_M_begins.2.1 15 = .ok (.ifCond .le 14, 3) := by decide +kernel
theorem d_M_begins_18 : decode m_M_begins.2.1 18 = .ok (.aload_n 0, 1) := by decide +kernel
theorem d_M_begins_19 : decode m_M_begins.2.1 19 = .ok (.getfield 13, 3) := by decide +kernel
theorem d_M_begins_22 : decode m_M_begins.2.1 22 = .ok (.iload_n 2, 1) := by decide +kernel
theorem d_M_begins_23 : decode m_M_begins.2.1 23 = .ok (.iconst 1, 1) := by decide +kernel
theorem d_M_begins_24 : decode m_M_begins.2.1 24 = .ok (.isub, 1) := by decide +kernel
theorem d_M_begins_25 : decode m_M_begins.2.1 25 = .ok (.laload, 1) := by decide +kernel
theorem d_M_begins_26 : decode m_M_begins.2.1 26 = .ok (.goto 4, 3) := by decide +kernel
theorem d_M_begins_29 : decode m_M_begins.2.1 29 = .ok (.lconst 0, 1) := by decide +kernel
theorem d_M_begins_30 : decode m_M_begins.2.1 30 = .ok (.lstore 5, 2) := by decide +kernel
theorem d_M_begins_32 : decode m_M_begins.2.1 32 = .ok (.iload_n 1, 1) := by decide +kernel
theorem d_M_begins_33 : decode m_M_begins.2.1 33 = .ok (.bipush 50, 2) := by decide +kernel
theorem d_M_begins_35 : decode m_M_begins.2.1 35 = .ok (.if_icmp .ne 42, 3) := by decide +kernel
theorem d_M_begins_38 : decode m_M_begins.2.1 38 = .ok (.aload_n 0, 1) := by decide +kernel
theorem d_M_begins_39 : decode m_M_begins.2.1 39 = .ok (.bipush 40, 2) := by decide +kernel
theorem d_M_begins_41 : decode m_M_begins.2.1 41 = .ok (.iload_n 2, 1) := by decide +kernel
theorem d_M_begins_42 : decode m_M_begins.2.1 42 = .ok (.invokevirtual 254, 3) := by decide +kernel
theorem d_M_begins_45 : decode m_M_begins.2.1 45 = .ok (.aload_n 0, 1) := by decide +kernel
theorem d_M_begins_46 : decode m_M_begins.2.1 46 = .ok (.dup, 1) := by decide +kernel
theorem d_M_begins_47 : decode m_M_begins.2.1 47 = .ok (.getfield 247, 3) := by decide +kernel
theorem d_M_begins_50 : decode m_M_begins.2.1 50 = .ok (.iconst 1, 1) := by decide +kernel
theorem d_M_begins_51 : decode m_M_begins.2.1 51 = .ok (.isub, 1) := by decide +kernel
theorem d_M_begins_52 : decode m_M_begins.2.1 52 = .ok (.putfield 247, 3) := by decide +kernel
theorem d_M_begins_55 : decode m_M_begins.2.1 55 = .ok (.aload_n 0, 1) := by decide +kernel
theorem d_M_begins_56 : decode m_M_begins.2.1 56 = .ok (.bipush 40, 2) := by decide +kernel
theorem d_M_begins_58 : decode m_M_begins.2.1 58 = .ok (.invokevirtual 378, 3) := by decide +kernel
theorem d_M_begins_61 : decode m_M_begins.2.1 61 = .ok (.ifCond .eq 11, 3) := by decide +kernel
theorem d_M_begins_64 : decode m_M_begins.2.1 64 = .ok (.aload_n 0, 1) := by decide +kernel
theorem d_M_begins_65 : decode m_M_begins.2.1 65 = .ok (.lload_n 3, 1) := by decide +kernel
theorem d_M_begins_66 : decode m_M_begins.2.1 66 = .ok (.invokevirtual 382, 3) := by decide +kernel
theorem d_M_begins_69 : decode m_M_begins.2.1 69 = .ok (.goto 7, 3) := by decide +kernel
theorem d_M_begins_72 : decode m_M_begins.2.1 72 = .ok (.aload_n 0, 1) := by decide +kernel
theorem d_M_begins_73 : decode m_M_begins.2.1 73 = .ok (.invokevirtual 522, 3) := by decide +kernel
theorem d_M_begins_76 : decode m_M_begins.2.1 76 = .ok (.ireturn, 1) := by decide +kernel
theorem d_M_begins_77 : decode m_M_begins.2.1 77 = .ok (.iload_n 1, 1) := by decide +kernel
theorem d_M_begins_78 : decode m_M_begins.2.1 78 = .ok (.bipush 54, 2) := by decide +kernel
theorem d_M_begins_80 : decode m_M_begins.2.1 80 = .ok (.if_icmp .ne 12, 3) := by decide +kernel
theorem d_M_begins_83 : decode m_M_begins.2.1 83 = .ok (.lload 5, 2) := by decide +kernel
theorem d_M_begins_85 : decode m_M_begins.2.1 85 = .ok (.lconst 0, 1) := by decide +kernel
theorem d_M_begins_86 : decode m_M_begins.2.1 86 = .ok (.lcmp, 1) := by decide +kernel
theorem d_M_begins_87 : decode m_M_begins.2.1 87 = .ok (.ifCond .ge 5, 3) := by decide +kernel
theorem d_M_begins_90 : decode m_M_begins.2.1 90 = .ok (.iconst 4, 1) := by decide +kernel
theorem d_M_begins_91 : decode m_M_begins.2.1 91 = .ok (.ireturn, 1) := by decide +kernel
theorem d_M_begins_92 : decode m_M_begins.2.1 92 = .ok (.iload_n 1, 1) := by decide +kernel
theorem d_M_begins_93 : decode m_M_begins.2.1 93 = .ok (.bipush 51, 2) := by decide +kernel
theorem d_M_begins_95 : decode m_M_begins.2.1 95 = .ok (.if_icmp .ne 10, 3) := by decide +kernel
theorem d_M_begins_98 : decode m_M_begins.2.1 98 = .ok (.lload 5, 2) := by decide +kernel
theorem d_M_begins_100 : decode m_M_begins.2.1 100 = .ok (.lconst 1, 1) := by decide +kernel
theorem d_M_begins_101 : decode m_M_begins.2.1 101 = .ok (.lcmp, 1) := by decide +kernel
theorem d_M_begins_102 : decode m_M_begins.2.1 102 = .ok (.ifCond .eq 22, 3) := by decide +kernel
theorem d_M_begins_105 : decode m_M_begins.2.1 105 = .ok (.iload_n 1, 1) := by decide +kernel
theorem d_M_begins_106 : decode m_M_begins.2.1 106 = .ok (.bipush 52, 2) := by decide +kernel
theorem d_M_begins_108 : decode m_M_begins.2.1 108 = .ok (.if_icmp .ne 20, 3) := by decide +kernel
theorem d_M_begins_111 : decode m_M_begins.2.1 111 = .ok (.aload_n 0, 1) := by decide +kernel
theorem d_M_begins_112 : decode m_M_begins.2.1 112 = .ok (.getfield 13, 3) := by decide +kernel
theorem d_M_begins_115 : decode m_M_begins.2.1 115 = .ok (.iload_n 2, 1) := by decide +kernel
theorem d_M_begins_116 : decode m_M_begins.2.1 116 = .ok (.iconst 2, 1) := by decide +kernel
theorem d_M_begins_117 : decode m_M_begins.2.1 117 = .ok (.isub, 1) := by decide +kernel
theorem d_M_begins_118 : decode m_M_begins.2.1 118 = .ok (.laload, 1) := by decide +kernel
theorem d_M_begins_119 : decode m_M_begins.2.1 119 = .ok (.lconst 1, 1) := by decide +kernel
theorem d_M_begins_120 : decode m_M_begins.2.1 120 = .ok (.lcmp, 1) := by decide +kernel
theorem d_M_begins_121 : decode m_M_begins.2.1 121 = .ok (.ifCond .ne 7, 3) := by decide +kernel
theorem d_M_begins_124 : decode m_M_begins.2.1 124 = .ok (.iconst 1, 1) := by decide +kernel
theorem d_M_begins_125 : decode m_M_begins.2.1 125 = .ok (.goto 4, 3) := by decide +kernel
theorem d_M_begins_128 : decode m_M_begins.2.1 128 = .ok (.iconst 0, 1) := by decide +kernel
theorem d_M_begins_129 : decode m_M_begins.2.1 129 = .ok (.istore 7, 2) := by decide +kernel
theorem d_M_begins_131 : decode m_M_begins.2.1 131 = .ok (.aload_n 0, 1) := by decide +kernel
theorem d_M_begins_132 : decode m_M_begins.2.1 132 = .ok (.getfield 52, 3) := by decide +kernel
theorem d_M_begins_135 : decode m_M_begins.2.1 135 = .ok (.aload_n 0, 1) := by decide +kernel
theorem d_M_begins_136 : decode m_M_begins.2.1 136 = .ok (.getfield 346, 3) := by decide +kernel
theorem d_M_begins_139 : decode m_M_begins.2.1 139 = .ok (.iload_n 1, 1) := by decide +kernel
theorem d_M_begins_140 : decode m_M_begins.2.1 140 = .ok (.bipush 53, 2) := by decide +kernel
theorem d_M_begins_142 : decode m_M_begins.2.1 142 = .ok (.if_icmp .ne 14, 3) := by decide +kernel
theorem d_M_begins_145 : decode m_M_begins.2.1 145 = .ok (.aload_n 0, 1) := by decide +kernel
theorem d_M_begins_146 : decode m_M_begins.2.1 146 = .ok (.getfield 13, 3) := by decide +kernel
theorem d_M_begins_149 : decode m_M_begins.2.1 149 = .ok (.iload_n 2, 1) := by decide +kernel
theorem d_M_begins_150 : decode m_M_begins.2.1 150 = .ok (.iconst 3, 1) := by decide +kernel
theorem d_M_begins_151 : decode m_M_begins.2.1 151 = .ok (.isub, 1) := by decide +kernel
theorem d_M_begins_152 : decode m_M_begins.2.1 152 = .ok (.laload, 1) := by decide +kernel
theorem d_M_begins_153 : decode m_M_begins.2.1 153 = .ok (.goto 5, 3) := by decide +kernel
theorem d_M_begins_156 : decode m_M_begins.2.1 156 = .ok (.lload 5, 2) := by decide +kernel
theorem d_M_begins_158 : decode m_M_begins.2.1 158 = .ok (.lastore, 1) := by decide +kernel
theorem d_M_begins_159 : decode m_M_begins.2.1 159 = .ok (.aload_n 0, 1) := by decide +kernel
theorem d_M_begins_160 : decode m_M_begins.2.1 160 = .ok (.getfield 55, 3) := by decide +kernel
theorem d_M_begins_163 : decode m_M_begins.2.1 163 = .ok (.aload_n 0, 1) := by decide +kernel
theorem d_M_begins_164 : decode m_M_begins.2.1 164 = .ok (.getfield 346, 3) := by decide +kernel
theorem d_M_begins_167 : decode m_M_begins.2.1 167 = .ok (.iload_n 1, 1) := by decide +kernel
theorem d_M_begins_168 : decode m_M_begins.2.1 168 = .ok (.bipush 53, 2) := by decide +kernel
theorem d_M_begins_170 : decode m_M_begins.2.1 170 = .ok (.if_icmp .ne 14, 3) := by decide +kernel
theorem d_M_begins_173 : decode m_M_begins.2.1 173 = .ok (.aload_n 0, 1) := by decide +kernel
theorem d_M_begins_174 : decode m_M_begins.2.1 174 = .ok (.getfield 13, 3) := by decide +kernel
theorem d_M_begins_177 : decode m_M_begins.2.1 177 = .ok (.iload_n 2, 1) := by decide +kernel
theorem d_M_begins_178 : decode m_M_begins.2.1 178 = .ok (.iconst 2, 1) := by decide +kernel
theorem d_M_begins_179 : decode m_M_begins.2.1 179 = .ok (.isub, 1) := by decide +kernel
theorem d_M_begins_180 : decode m_M_begins.2.1 180 = .ok (.laload, 1) := by decide +kernel
theorem d_M_begins_181 : decode m_M_begins.2.1 181 = .ok (.goto 4, 3) := by decide +kernel
theorem d_M_begins_184 : decode m_M_begins.2.1 184 = .ok (.lconst 0, 1) := by decide +kernel
theorem d_M_begins_185 : decode m_M_begins.2.1 185 = .ok (.lastore, 1) := by decide +kernel
theorem d_M_begins_186 : decode m_M_begins.2.1 186 = .ok (.aload_n 0, 1) := by decide +kernel
theorem d_M_begins_187 : decode m_M_begins.2.1 187 = .ok (.getfield 58, 3) := by decide +kernel
theorem d_M_begins_190 : decode m_M_begins.2.1 190 = .ok (.aload_n 0, 1) := by decide +kernel
theorem d_M_begins_191 : decode m_M_begins.2.1 191 = .ok (.getfield 346, 3) := by decide +kernel
theorem d_M_begins_194 : decode m_M_begins.2.1 194 = .ok (.lload 5, 2) := by decide +kernel
theorem d_M_begins_196 : decode m_M_begins.2.1 196 = .ok (.lastore, 1) := by decide +kernel
theorem d_M_begins_197 : decode m_M_begins.2.1 197 = .ok (.aload_n 0, 1) := by decide +kernel
theorem d_M_begins_198 : decode m_M_begins.2.1 198 = .ok (.dup, 1) := by decide +kernel
theorem d_M_begins_199 : decode m_M_begins.2.1 199 = .ok (.getfield 247, 3) := by decide +kernel
theorem d_M_begins_202 : decode m_M_begins.2.1 202 = .ok (.iload_n 1, 1) := by decide +kernel
theorem d_M_begins_203 : decode m_M_begins.2.1 203 = .ok (.bipush 53, 2) := by decide +kernel
theorem d_M_begins_205 : decode m_M_begins.2.1 205 = .ok (.if_icmp .ne 7, 3) := by decide +kernel
theorem d_M_begins_208 : decode m_M_begins.2.1 208 = .ok (.iconst 4, 1) := by decide +kernel
theorem d_M_begins_209 : decode m_M_begins.2.1 209 = .ok (.goto 24, 3) := by decide +kernel
theorem d_M_begins_212 : decode m_M_begins.2.1 212 = .ok (.iload_n 1, 1) := by decide +kernel
theorem d_M_begins_213 : decode m_M_begins.2.1 213 = .ok (.bipush 52, 2) := by decide +kernel
theorem d_M_begins_215 : decode m_M_begins.2.1 215 = .ok (.if_icmp .ne 7, 3) := by decide +kernel
theorem d_M_begins_218 : decode m_M_begins.2.1 218 = .ok (.iconst 3, 1) := by decide +kernel
theorem d_M_begins_219 : decode m_M_begins.2.1 219 = .ok (.goto 14, 3) := by decide +kernel
theorem d_M_begins_222 : decode m_M_begins.2.1 222 = .ok (.iload_n 1, 1) := by decide +kernel
theorem d_M_begins_223 : decode m_M_begins.2.1 223 = .ok (.bipush 55, 2) := by decide +kernel
theorem d_M_begins_225 : decode m_M_begins.2.1 225 = .ok (.if_icmp .ne 7, 3) := by decide +kernel
theorem d_M_begins_228 : decode m_M_begins.2.1 228 = .ok (.iconst 1, 1) := by decide +kernel
theorem d_M_begins_229 : decode m_M_begins.2.1 229 = .ok (.goto 4, 3) := by decide +kernel
theorem d_M_begins_232 : decode m_M_begins.2.1 232 = .ok (.iconst 2, 1) := by decide +kernel
theorem d_M_begins_233 : decode m_M_begins.2.1 233 = .ok (.isub, 1) := by decide +kernel
theorem d_M_begins_234 : decode m_M_begins.2.1 234 = .ok (.putfield 247, 3) := by decide +kernel
theorem d_M_begins_237 : decode m_M_begins.2.1 237 = .ok (.iload_n 1, 1) := by decide +kernel
theorem d_M_begins_238 : decode m_M_begins.2.1 238 = .ok (.bipush 51, 2) := by decide +kernel
theorem d_M_begins_240 : decode m_M_begins.2.1 240 = .ok (.if_icmp .ne 18, 3) := by decide +kernel
theorem d_M_begins_243 : decode m_M_begins.2.1 243 = .ok (.iload 7, 2) := by decide +kernel
theorem d_M_begins_245 : decode m_M_begins.2.1 245 = .ok (.ifCond .eq 11, 3) := by decide +kernel
theorem d_M_begins_248 : decode m_M_begins.2.1 248 = .ok (.aload_n 0, 1) := by decide +kernel
theorem d_M_begins_249 : decode m_M_begins.2.1 249 = .ok (.lload_n 3, 1) := by decide +kernel
theorem d_M_begins_250 : decode m_M_begins.2.1 250 = .ok (.invokevirtual 382, 3) := by decide +kernel
theorem d_M_begins_253 : decode m_M_begins.2.1 253 = .ok (.goto 4, 3) := by decide +kernel
theorem d_M_begins_256 : decode m_M_begins.2.1 256 = .ok (.iconst 0, 1) := by decide +kernel
theorem d_M_begins_257 : decode m_M_begins.2.1 257 = .ok (.ireturn, 1) := by decide +kernel
theorem d_M_begins_258 : decode m_M_begins.2.1 258 = .ok (.iload_n 1, 1) := by decide +kernel
theorem d_M_begins_259 : decode m_M_begins.2.1 259 = .ok (.bipush 52, 2) := by decide +kernel
theorem d_M_begins_261 : decode m_M_begins.2.1 261 = .ok (.if_icmp .ne 19, 3) := by decide +kernel
theorem d_M_begins_264 : decode m_M_begins.2.1 264 = .ok (.aload_n 0, 1) := by decide +kernel
theorem d_M_begins_265 : decode m_M_begins.2.1 265 = .ok (.iload 7, 2) := by decide +kernel
theorem d_M_begins_267 : decode m_M_begins.2.1 267 = .ok (.ifCond .eq 8, 3) := by decide +kernel
theorem d_M_begins_270 : decode m_M_begins.2.1 270 = .ok (.lload 5, 2) := by decide +kernel
theorem d_M_begins_272 : decode m_M_begins.2.1 272 = .ok (.goto 4, 3) := by decide +kernel
theorem d_M_begins_275 : decode m_M_begins.2.1 275 = .ok (.lload_n 3, 1) := by decide +kernel
theorem d_M_begins_276 : decode m_M_begins.2.1 276 = .ok (.invokevirtual 382, 3) := by decide +kernel
theorem d_M_begins_279 : decode m_M_begins.2.1 279 = .ok (.ireturn, 1) := by decide +kernel
theorem d_M_begins_280 : decode m_M_begins.2.1 280 = .ok (.aload_n 0, 1) := by decide +kernel
theorem d_M_begins_281 : decode m_M_begins.2.1 281 = .ok (.iload_n 1, 1) := by decide +kernel
theorem d_M_begins_282 : decode m_M_begins.2.1 282 = .ok (.bipush 50, 2) := by decide +kernel
theorem d_M_begins_284 : decode m_M_begins.2.1 284 = .ok (.isub, 1) := by decide +kernel
theorem d_M_begins_285 : decode m_M_begins.2.1 285 = .ok (.lload_n 3, 1) := by decide +kernel
theorem d_M_begins_286 : decode m_M_begins.2.1 286 = .ok (.invokevirtual 352, 3) := by decide +kernel
theorem d_M_begins_289 : decode m_M_begins.2.1 289 = .ok (.iconst 0, 1) := by decide +kernel
theorem d_M_begins_290 : decode m_M_begins.2.1 290 = .ok (.ireturn, 1) := by decide +kernel
theorem d_M_bits_0 : decode m_M_bits.2.1 0 = .ok (.aload_n 0, 1) := by decide +kernel
theorem d_M_bits_1 : decode m_M_bits.2.1 1 = .ok (.getfield 13, 3) := by decide +kernel
theorem d_M_bits_4 : decode m_M_bits.2.1 4 = .ok (.iload_n 2, 1) := by decide +kernel
theorem d_M_bits_5 : decode m_M_bits.2.1 5 = .ok (.laload, 1) := by decide +kernel
theorem d_M_bits_6 : decode m_M_bits.2.1 6 = .ok (.lstore_n 3, 1) := by decide +kernel
theorem d_M_bits_7 : decode m_M_bits.2.1 7 = .ok (.iload_n 1, 1) := by decide +kernel
theorem d_M_bits_8 : decode m_M_bits.2.1 8 = .ok (.bipush 31, 2) := by decide +kernel
theorem d_M_bits_10 : decode m_M_bits.2.1 10 = .ok (.if_icmp .ne 35, 3) := by decide +kernel
theorem d_M_bits_13 : decode m_M_bits.2.1 13 = .ok (.aload_n 0, 1) := by decide +kernel
theorem d_M_bits_14 : decode m_M_bits.2.1 14 = .ok (.iconst 1, 1) := by decide +kernel
theorem d_M_bits_15 : decode m_M_bits.2.1 15 = .ok (.aload_n 0, 1) := by decide +kernel
theorem d_M_bits_16 : decode m_M_bits.2.1 16 = .ok (.getfield 7, 3) := by decide +kernel
theorem d_M_bits_19 : decode m_M_bits.2.1 19 = .ok (.iload_n 2, 1) := by decide +kernel
theorem d_M_bits_20 : decode m_M_bits.2.1 20 = .ok (.iaload, 1) := by decide +kernel
theorem d_M_bits_21 : decode m_M_bits.2.1 21 = .ok (.aload_n 0, 1) := by decide +kernel
theorem d_M_bits_22 : decode m_M_bits.2.1 22 = .ok (.getfield 7, 3) := by decide +kernel
theorem d_M_bits_25 : decode m_M_bits.2.1 25 = .ok (.iload_n 2, 1) := by decide +kernel
theorem d_M_bits_26 : decode m_M_bits.2.1 26 = .ok (.iaload, 1) := by decide +kernel
theorem d_M_bits_27 : decode m_M_bits.2.1 27 = .ok (.ifCond .ne 11, 3) := by decide +kernel
theorem d_M_bits_30 : decode m_M_bits.2.1 30 = .ok (.ldc2_w 400, 3) := by decide +kernel
theorem d_M_bits_33 : decode m_M_bits.2.1 33 = .ok (.lload_n 3, 1) := by decide +kernel
theorem d_M_bits_34 : decode m_M_bits.2.1 34 = .ok (.lsub, 1) := by decide +kernel
theorem d_M_bits_35 : decode m_M_bits.2.1 35 = .ok (.goto 6, 3) := by decide +kernel
theorem d_M_bits_38 : decode m_M_bits.2.1 38 = .ok (.lconst 1, 1) := by decide +kernel
theorem d_M_bits_39 : decode m_M_bits.2.1 39 = .ok (.lload_n 3, 1) := by decide +kernel
theorem d_M_bits_40 : decode m_M_bits.2.1 40 = .ok (.lsub, 1) := by decide +kernel
theorem d_M_bits_41 : decode m_M_bits.2.1 41 = .ok (.invokevirtual 262, 3) := by decide +kernel
theorem d_M_bits_44 : decode m_M_bits.2.1 44 = .ok (.ireturn, 1) := by decide +kernel
theorem d_M_bits_45 : decode m_M_bits.2.1 45 = .ok (.iload_n 1, 1) := by decide +kernel
theorem d_M_bits_46 : decode m_M_bits.2.1 46 = .ok (.bipush 35, 2) := by decide +kernel
theorem d_M_bits_48 : decode m_M_bits.2.1 48 = .ok (.if_icmp .ne 26, 3) := by decide +kernel
theorem d_M_bits_51 : decode m_M_bits.2.1 51 = .ok (.aload_n 0, 1) := by decide +kernel
theorem d_M_bits_52 : decode m_M_bits.2.1 52 = .ok (.iconst 1, 1) := by decide +kernel
theorem d_M_bits_53 : decode m_M_bits.2.1 53 = .ok (.iconst 2, 1) := by decide +kernel
theorem d_M_bits_54 : decode m_M_bits.2.1 54 = .ok (.aload_n 0, 1) := by decide +kernel
theorem d_M_bits_55 : decode m_M_bits.2.1 55 = .ok (.getfield 7, 3) := by decide +kernel
theorem d_M_bits_58 : decode m_M_bits.2.1 58 = .ok (.iload_n 2, 1) := by decide +kernel
theorem d_M_bits_59 : decode m_M_bits.2.1 59 = .ok (.iaload, 1) := by decide +kernel
theorem d_M_bits_60 : decode m_M_bits.2.1 60 = .ok (.bipush 7, 2) := by decide +kernel
theorem d_M_bits_62 : decode m_M_bits.2.1 62 = .ok (.if_icmp .le 7, 3) := by decide +kernel
theorem d_M_bits_65 : decode m_M_bits.2.1 65 = .ok (.lconst 1, 1) := by decide +kernel
theorem d_M_bits_66 : decode m_M_bits.2.1 66 = .ok (.goto 4, 3) := by decide +kernel
theorem d_M_bits_69 : decode m_M_bits.2.1 69 = .ok (.lconst 0, 1) := by decide +kernel
theorem d_M_bits_70 : decode m_M_bits.2.1 70 = .ok (.invokevirtual 262, 3) := by decide +kernel
theorem d_M_bits_73 : decode m_M_bits.2.1 73 = .ok (.ireturn, 1) := by decide +kernel
theorem d_M_bits_74 : decode m_M_bits.2.1 74 = .ok (.iload_n 1, 1) := by decide +kernel
theorem d_M_bits_75 : decode m_M_bits.2.1 75 = .ok (.bipush 36, 2) := by decide +kernel
theorem d_M_bits_77 : decode m_M_bits.2.1 77 = .ok (.if_icmp .ne 16, 3) := by decide +kernel
theorem d_M_bits_80 : decode m_M_bits.2.1 80 = .ok (.aload_n 0, 1) := by decide +kernel
theorem d_M_bits_81 : decode m_M_bits.2.1 81 = .ok (.iconst 1, 1) := by decide +kernel
theorem d_M_bits_82 : decode m_M_bits.2.1 82 = .ok (.iconst 0, 1) := by decide +kernel
theorem d_M_bits_83 : decode m_M_bits.2.1 83 = .ok (.aload_n 0, 1) := by decide +kernel
theorem d_M_bits_84 : decode m_M_bits.2.1 84 = .ok (.iload_n 2, 1) := by decide +kernel
theorem d_M_bits_85 : decode m_M_bits.2.1 85 = .ok (.invokevirtual 421, 3) := by decide +kernel
theorem d_M_bits_88 : decode m_M_bits.2.1 88 = .ok (.i2l, 1) := by decide +kernel
theorem d_M_bits_89 : decode m_M_bits.2.1 89 = .ok (.invokevirtual 262, 3) := by decide +kernel
theorem d_M_bits_92 : decode m_M_bits.2.1 92 = .ok (.ireturn, 1) := by decide +kernel
theorem d_M_bits_93 : decode m_M_bits.2.1 93 = .ok (.iload_n 1, 1) := by decide +kernel
theorem d_M_bits_94 : decode m_M_bits.2.1 94 = .ok (.bipush 33, 2) := by decide +kernel
theorem d_M_bits_96 : decode m_M_bits.2.1 96 = .ok (.if_icmp .eq 9, 3) := by decide +kernel
theorem d_M_bits_99 : decode m_M_bits.2.1 99 = .ok (.iload_n 1, 1) := by decide +kernel
theorem d_M_bits_100 : decode m_M_bits.2.1 100 = .ok (.bipush 34, 2) := by decide +kernel
theorem d_M_bits_102 : decode m_M_bits.2.1 102 = .ok (.if_icmp .ne 46, 3) := by decide +kernel
theorem d_M_bits_105 : decode m_M_bits.2.1 105 = .ok (.aload_n 0, 1) := by decide +kernel
theorem d_M_bits_106 : decode m_M_bits.2.1 106 = .ok (.iload_n 2, 1) := by decide +kernel
theorem d_M_bits_107 : decode m_M_bits.2.1 107 = .ok (.invokevirtual 421, 3) := by decide +kernel
theorem d_M_bits_110 : decode m_M_bits.2.1 110 = .ok (.istore 5, 2) := by decide +kernel
theorem d_M_bits_112 : decode m_M_bits.2.1 112 = .ok (.iload 5, 2) := by decide +kernel
theorem d_M_bits_114 : decode m_M_bits.2.1 114 = .ok (.iconst 3, 1) := by decide +kernel
theorem d_M_bits_115 : decode m_M_bits.2.1 115 = .ok (.if_icmp .eq 9, 3) := by decide +kernel
theorem d_M_bits_118 : decode m_M_bits.2.1 118 = .ok (.iload 5, 2) := by decide +kernel
theorem d_M_bits_120 : decode m_M_bits.2.1 120 = .ok (.iconst 5, 1) := by decide +kernel
theorem d_M_bits_121 : decode m_M_bits.2.1 121 = .ok (.if_icmp .ne 25, 3) := by decide +kernel
theorem d_M_bits_124 : decode m_M_bits.2.1 124 = .ok (.aload_n 0, 1) := by decide +kernel
theorem d_M_bits_125 : decode m_M_bits.2.1 125 = .ok (.getfield 7, 3) := by decide +kernel
theorem d_M_bits_128 : decode m_M_bits.2.1 128 = .ok (.iload_n 2, 1) := by decide +kernel
theorem d_M_bits_129 : decode m_M_bits.2.1 129 = .ok (.iload_n 1, 1) := by decide +kernel
theorem d_M_bits_130 : decode m_M_bits.2.1 130 = .ok (.bipush 33, 2) := by decide +kernel
theorem d_M_bits_132 : decode m_M_bits.2.1 132 = .ok (.if_icmp .ne 11, 3) := by decide +kernel
theorem d_M_bits_135 : decode m_M_bits.2.1 135 = .ok (.iload 5, 2) := by decide +kernel
theorem d_M_bits_137 : decode m_M_bits.2.1 137 = .ok (.bipush 8, 2) := by decide +kernel
theorem d_M_bits_139 : decode m_M_bits.2.1 139 = .ok (.iadd, 1) := by decide +kernel
theorem d_M_bits_140 : decode m_M_bits.2.1 140 = .ok (.goto 5, 3) := by decide +kernel
theorem d_M_bits_143 : decode m_M_bits.2.1 143 = .ok (.iload 5, 2) := by decide +kernel
theorem d_M_bits_145 : decode m_M_bits.2.1 145 = .ok (.iastore, 1) := by decide +kernel
theorem d_M_bits_146 : decode m_M_bits.2.1 146 = .ok (.iconst 0, 1) := by decide +kernel
theorem d_M_bits_147 : decode m_M_bits.2.1 147 = .ok (.ireturn, 1) := by decide +kernel
theorem d_M_bits_148 : decode m_M_bits.2.1 148 = .ok (.aload_n 0, 1) := by decide +kernel
theorem d_M_bits_149 : decode m_M_bits.2.1 149 = .ok (.getfield 13, 3) := by decide +kernel
theorem d_M_bits_152 : decode m_M_bits.2.1 152 = .ok (.iload_n 2, 1) := by decide +kernel
theorem d_M_bits_153 : decode m_M_bits.2.1 153 = .ok (.iconst 1, 1) := by decide +kernel
theorem d_M_bits_154 : decode m_M_bits.2.1 154 = .ok (.isub, 1) := by decide +kernel
theorem d_M_bits_155 : decode m_M_bits.2.1 155 = .ok (.laload, 1) := by decide +kernel
theorem d_M_bits_156 : decode m_M_bits.2.1 156 = .ok (.l2i, 1) := by decide +kernel
theorem d_M_bits_157 : decode m_M_bits.2.1 157 = .ok (.istore 5, 2) := by decide +kernel
theorem d_M_bits_159 : decode m_M_bits.2.1 159 = .ok (.iload_n 1, 1) := by decide +kernel
theorem d_M_bits_160 : decode m_M_bits.2.1 160 = .ok (.bipush 29, 2) := by decide +kernel
theorem d_M_bits_162 : decode m_M_bits.2.1 162 = .ok (.if_icmp .ne 25, 3) := by decide +kernel
theorem d_M_bits_165 : decode m_M_bits.2.1 165 = .ok (.aload_n 0, 1) := by decide +kernel
theorem d_M_bits_166 : decode m_M_bits.2.1 166 = .ok (.iconst 2, 1) := by decide +kernel
theorem d_M_bits_167 : decode m_M_bits.2.1 167 = .ok (.aload_n 0, 1) := by decide +kernel
theorem d_M_bits_168 : decode m_M_bits.2.1 168 = .ok (.getfield 7, 3) := by decide +kernel
theorem d_M_bits_171 : decode m_M_bits.2.1 171 = .ok (.iload_n 2, 1) := by decide +kernel
theorem d_M_bits_172 : decode m_M_bits.2.1 172 = .ok (.iaload, 1) := by decide +kernel
theorem d_M_bits_173 : decode m_M_bits.2.1 173 = .ok (.aload_n 0, 1) := by decide +kernel
theorem d_M_bits_174 : decode m_M_bits.2.1 174 = .ok (.getfield 13, 3) := by decide +kernel
theorem d_M_bits_177 : decode m_M_bits.2.1 177 = .ok (.iload_n 2, 1) := by decide +kernel
theorem d_M_bits_178 : decode m_M_bits.2.1 178 = .ok (.iconst 1, 1) := by decide +kernel
theorem d_M_bits_179 : decode m_M_bits.2.1 179 = .ok (.isub, 1) := by decide +kernel
theorem d_M_bits_180 : decode m_M_bits.2.1 180 = .ok (.laload, 1) := by decide +kernel
theorem d_M_bits_181 : decode m_M_bits.2.1 181 = .ok (.lload_n 3, 1) := by decide +kernel
theorem d_M_bits_182 : decode m_M_bits.2.1 182 = .ok (.land, 1) := by decide +kernel
theorem d_M_bits_183 : decode m_M_bits.2.1 183 = .ok (.invokevirtual 262, 3) := by decide +kernel
theorem d_M_bits_186 : decode m_M_bits.2.1 186 = .ok (.ireturn, 1) := by decide +kernel
theorem d_M_bits_187 : decode m_M_bits.2.1 187 = .ok (.iload_n 1, 1) := by decide +kernel
theorem d_M_bits_188 : decode m_M_bits.2.1 188 = .ok (.bipush 30, 2) := by decide +kernel
theorem d_M_bits_190 : decode m_M_bits.2.1 190 = .ok (.if_icmp .ne 25, 3) := by decide +kernel
theorem d_M_bits_193 : decode m_M_bits.2.1 193 = .ok (.aload_n 0, 1) := by decide +kernel
theorem d_M_bits_194 : decode m_M_bits.2.1 194 = .ok (.iconst 2, 1) := by decide +kernel
theorem d_M_bits_195 : decode m_M_bits.2.1 195 = .ok (.aload_n 0, 1) := by decide +kernel
theorem d_M_bits_196 : decode m_M_bits.2.1 196 = .ok (.getfield 7, 3) := by decide +kernel
theorem d_M_bits_199 : decode m_M_bits.2.1 199 = .ok (.iload_n 2, 1) := by decide +kernel
theorem d_M_bits_200 : decode m_M_bits.2.1 200 = .ok (.iaload, 1) := by decide +kernel
theorem d_M_bits_201 : decode m_M_bits.2.1 201 = .ok (.aload_n 0, 1) := by decide +kernel
theorem d_M_bits_202 : decode m_M_bits.2.1 202 = .ok (.getfield 13, 3) := by decide +kernel
theorem d_M_bits_205 : decode m_M_bits.2.1 205 = .ok (.iload_n 2, 1) := by decide +kernel
theorem d_M_bits_206 : decode m_M_bits.2.1 206 = .ok (.iconst 1, 1) := by decide +kernel
theorem d_M_bits_207 : decode m_M_bits.2.1 207 = .ok (.isub, 1) := by decide +kernel
theorem d_M_bits_208 : decode m_M_bits.2.1 208 = .ok (.laload, 1) := by decide +kernel
theorem d_M_bits_209 : decode m_M_bits.2.1 209 = .ok (.lload_n 3, 1) := by decide +kernel
theorem d_M_bits_210 : decode m_M_bits.2.1 210 = .ok (.lor, 1) := by decide +kernel
theorem d_M_bits_211 : decode m_M_bits.2.1 211 = .ok (.invokevirtual 262, 3) := by decide +kernel
theorem d_M_bits_214 : decode m_M_bits.2.1 214 = .ok (.ireturn, 1) := by decide +kernel
theorem d_M_bits_215 : decode m_M_bits.2.1 215 = .ok (.lload_n 3, 1) := by decide +kernel
theorem d_M_bits_216 : decode m_M_bits.2.1 216 = .ok (.ldc2_w 493, 3) := by decide +kernel
theorem d_M_bits_219 : decode m_M_bits.2.1 219 = .ok (.lcmp, 1) := by decide +kernel
theorem d_M_bits_220 : decode m_M_bits.2.1 220 = .ok (.ifCond .gt 11, 3) := by decide +kernel
theorem d_M_bits_223 : decode m_M_bits.2.1 223 = .ok (.lload_n 3, 1) := by decide +kernel
theorem d_M_bits_224 : decode m_M_bits.2.1 224 = .ok (.ldc2_w 495, 3) := by decide +kernel
theorem d_M_bits_227 : decode m_M_bits.2.1 227 = .ok (.lcmp, 1) := by decide +kernel
theorem d_M_bits_228 : decode m_M_bits.2.1 228 = .ok (.ifCond .ge 7, 3) := by decide +kernel
theorem d_M_bits_231 : decode m_M_bits.2.1 231 = .ok (.iconst 1, 1) := by decide +kernel
theorem d_M_bits_232 : decode m_M_bits.2.1 232 = .ok (.goto 4, 3) := by decide +kernel
theorem d_M_bits_235 : decode m_M_bits.2.1 235 = .ok (.iconst 0, 1) := by decide +kernel
theorem d_M_bits_236 : decode m_M_bits.2.1 236 = .ok (.istore 6, 2) := by decide +kernel
theorem d_M_bits_238 : decode m_M_bits.2.1 238 = .ok (.aload_n 0, 1) := by decide +kernel
theorem d_M_bits_239 : decode m_M_bits.2.1 239 = .ok (.iconst 2, 1) := by decide +kernel
theorem d_M_bits_240 : decode m_M_bits.2.1 240 = .ok (.iconst 0, 1) := by decide +kernel
theorem d_M_bits_241 : decode m_M_bits.2.1 241 = .ok (.iload 6, 2) := by decide +kernel
theorem d_M_bits_243 : decode m_M_bits.2.1 243 = .ok (.ifCond .eq 7, 3) := by decide +kernel
theorem d_M_bits_246 : decode m_M_bits.2.1 246 = .ok (.lconst 0, 1) := by decide +kernel
theorem d_M_bits_247 : decode m_M_bits.2.1 247 = .ok (.goto 25, 3) := by decide +kernel
theorem d_M_bits_250 : decode m_M_bits.2.1 250 = .ok (.lload_n 3, 1) := by decide +kernel
theorem d_M_bits_251 : decode m_M_bits.2.1 251 = .ok (.lconst 0, 1) := by decide +kernel
theorem d_M_bits_252 : decode m_M_bits.2.1 252 = .ok (.lcmp, 1) := by decide +kernel
theorem d_M_bits_253 : decode m_M_bits.2.1 253 = .ok (.ifCond .ge 13, 3) := by decide +kernel
theorem d_M_bits_256 : decode m_M_bits.2.1 256 = .ok (.iload 5, 2) := by decide +kernel
theorem d_M_bits_258 : decode m_M_bits.2.1 258 = .ok (.lload_n 3, 1) := by decide +kernel
theorem d_M_bits_259 : decode m_M_bits.2.1 259 = .ok (.lneg, 1) := by decide +kernel
theorem d_M_bits_260 : decode m_M_bits.2.1 260 = .ok (.l2i, 1) := by decide +kernel
theorem d_M_bits_261 : decode m_M_bits.2.1 261 = .ok (.iushr, 1) := by decide +kernel
theorem d_M_bits_262 : decode m_M_bits.2.1 262 = .ok (.i2l, 1) := by decide +kernel
theorem d_M_bits_263 : decode m_M_bits.2.1 263 = .ok (.goto 9, 3) := by decide +kernel
theorem d_M_bits_266 : decode m_M_bits.2.1 266 = .ok (.iload 5, 2) := by decide +kernel
theorem d_M_bits_268 : decode m_M_bits.2.1 268 = .ok (.lload_n 3, 1) := by decide +kernel
theorem d_M_bits_269 : decode m_M_bits.2.1 269 = .ok (.l2i, 1) := by decide +kernel
theorem d_M_bits_270 : decode m_M_bits.2.1 270 = .ok (.ishl, 1) := by decide +kernel
theorem d_M_bits_271 : decode m_M_bits.2.1 271 = .ok (.i2l, 1) := by decide +kernel
theorem d_M_bits_272 : decode m_M_bits.2.1 272 = .ok (.invokevirtual 262, 3) := by decide +kernel
theorem d_M_bits_275 : decode m_M_bits.2.1 275 = .ok (.ireturn, 1) := by decide +kernel
theorem d_M_caught_0 : decode m_M_caught.2.1 0 = .ok (.iload_n 1, 1) := by decide +kernel
theorem d_M_caught_1 : decode m_M_caught.2.1 1 = .ok (.istore_n 2, 1) := by decide +kernel
theorem d_M_caught_2 : decode m_M_caught.2.1 2 = .ok (.iload_n 2, 1) := by decide +kernel
theorem d_M_caught_3 : decode m_M_caught.2.1 3 = .ok (.ifCond .eq 67, 3) := by decide +kernel
theorem d_M_caught_6 : decode m_M_caught.2.1 6 = .ok (.aload_n 0, 1) := by decide +kernel
theorem d_M_caught_7 : decode m_M_caught.2.1 7 = .ok (.iload_n 2, 1) := by decide +kernel
theorem d_M_caught_8 : decode m_M_caught.2.1 8 = .ok (.putfield 402, 3) := by decide +kernel
theorem d_M_caught_11 : decode m_M_caught.2.1 11 = .ok (.aload_n 0, 1) := by decide +kernel
theorem d_M_caught_12 : decode m_M_caught.2.1 12 = .ok (.getfield 346, 3) := by decide +kernel
theorem d_M_caught_15 : decode m_M_caught.2.1 15 = .ok (.ifCond .le 32, 3) := by decide +kernel
theorem d_M_caught_18 : decode m_M_caught.2.1 18 = .ok (.iload_n 2, 1) := by decide +kernel
theorem d_M_caught_19 : decode m_M_caught.2.1 19 = .ok (.bipush 16, 2) := by decide +kernel
theorem d_M_caught_21 : decode m_M_caught.2.1 21 = .ok (.if_icmp .eq 19, 3) := by decide +kernel
theorem d_M_caught_24 : decode m_M_caught.2.1 24 = .ok (.aload_n 0, 1) := by decide +kernel
theorem d_M_caught_25 : decode m_M_caught.2.1 25 = .ok (.getfield 43, 3) := by decide +kernel
theorem d_M_caught_28 : decode m_M_caught.2.1 28 = .ok (.aload_n 0, 1) := by decide +kernel
theorem d_M_caught_29 : decode m_M_caught.2.1 29 = .ok (.getfield 346, 3) := by decide +kernel
theorem d_M_caught_32 : decode m_M_caught.2.1 32 = .ok (.iconst 1, 1) := by decide +kernel
theorem d_M_caught_33 : decode m_M_caught.2.1 33 = .ok (.isub, 1) := by decide +kernel
theorem d_M_caught_34 : decode m_M_caught.2.1 34 = .ok (.iaload, 1) := by decide +kernel
theorem d_M_caught_35 : decode m_M_caught.2.1 35 = .ok (.bipush 7, 2) := by decide +kernel
theorem d_M_caught_37 : decode m_M_caught.2.1 37 = .ok (.if_icmp .eq 10, 3) := by decide +kernel
theorem d_M_caught_40 : decode m_M_caught.2.1 40 = .ok (.aload_n 0, 1) := by decide +kernel
theorem d_M_caught_41 : decode m_M_caught.2.1 41 = .ok (.invokevirtual 385, 3) := by decide +kernel
theorem d_M_caught_44 : decode m_M_caught.2.1 44 = .ok (.goto (-33), 3) := by decide +kernel
theorem d_M_caught_47 : decode m_M_caught.2.1 47 = .ok (.aload_n 0, 1) := by decide +kernel
theorem d_M_caught_48 : decode m_M_caught.2.1 48 = .ok (.getfield 346, 3) := by decide +kernel
theorem d_M_caught_51 : decode m_M_caught.2.1 51 = .ok (.ifCond .ne 5, 3) := by decide +kernel
theorem d_M_caught_54 : decode m_M_caught.2.1 54 = .ok (.iload_n 2, 1) := by decide +kernel
theorem d_M_caught_55 : decode m_M_caught.2.1 55 = .ok (.ireturn, 1) := by decide +kernel
theorem d_M_caught_56 : decode m_M_caught.2.1 56 = .ok (.aload_n 0, 1) := by decide +kernel
theorem d_M_caught_57 : decode m_M_caught.2.1 57 = .ok (.invokevirtual 385, 3) := by decide +kernel
theorem d_M_caught_60 : decode m_M_caught.2.1 60 = .ok (.aload_n 0, 1) := by decide +kernel
theorem d_M_caught_61 : decode m_M_caught.2.1 61 = .ok (.iconst 2, 1) := by decide +kernel
theorem d_M_caught_62 : decode m_M_caught.2.1 62 = .ok (.lconst 1, 1) := by decide +kernel
theorem d_M_caught_63 : decode m_M_caught.2.1 63 = .ok (.invokevirtual 388, 3) := by decide +kernel
theorem d_M_caught_66 : decode m_M_caught.2.1 66 = .ok (.istore_n 2, 1) := by decide +kernel
theorem d_M_caught_67 : decode m_M_caught.2.1 67 = .ok (.goto (-65), 3) := by decide +kernel
theorem d_M_caught_70 : decode m_M_caught.2.1 70 = .ok (.iconst 0, 1) := by decide +kernel
theorem d_M_caught_71 : decode m_M_caught.2.1 71 = .ok (.ireturn, 1) := by decide +kernel
theorem d_M_close_0 : decode m_M_close.2.1 0 = .ok (.aload_n 0, 1) := by decide +kernel
theorem d_M_close_1 : decode m_M_close.2.1 1 = .ok (.dup, 1) := by decide +kernel
theorem d_M_close_2 : decode m_M_close.2.1 2 = .ok (.getfield 281, 3) := by decide +kernel
theorem d_M_close_5 : decode m_M_close.2.1 5 = .ok (.iconst 1, 1) := by decide +kernel
theorem d_M_close_6 : decode m_M_close.2.1 6 = .ok (.iadd, 1) := by decide +kernel
theorem d_M_close_7 : decode m_M_close.2.1 7 = .ok (.putfield 281, 3) := by decide +kernel
theorem d_M_close_10 : decode m_M_close.2.1 10 = .ok (.aload_n 0, 1) := by decide +kernel
theorem d_M_close_11 : decode m_M_close.2.1 11 = .ok (.getfield 330, 3) := by decide +kernel
theorem d_M_close_14 : decode m_M_close.2.1 14 = .ok (.ifCond .ne 6, 3) := by decide +kernel
theorem d_M_close_17 : decode m_M_close.2.1 17 = .ok (.bipush 15, 2) := by decide +kernel
theorem d_M_close_19 : decode m_M_close.2.1 19 = .ok (.ireturn, 1) := by decide +kernel
theorem d_M_close_20 : decode m_M_close.2.1 20 = .ok (.aload_n 0, 1) := by decide +kernel
theorem d_M_close_21 : decode m_M_close.2.1 21 = .ok (.dup, 1) := by decide +kernel
theorem d_M_close_22 : decode m_M_close.2.1 22 = .ok (.getfield 330, 3) := by decide +kernel
theorem d_M_close_25 : decode m_M_close.2.1 25 = .ok (.iconst 1, 1) := by decide +kernel
theorem d_M_close_26 : decode m_M_close.2.1 26 = .ok (.isub, 1) := by decide +kernel
theorem d_M_close_27 : decode m_M_close.2.1 27 = .ok (.putfield 330, 3) := by decide +kernel
theorem d_M_close_30 : decode m_M_close.2.1 30 = .ok (.aload_n 0, 1) := by decide +kernel
theorem d_M_close_31 : decode m_M_close.2.1 31 = .ok (.getfield 65, 3) := by decide +kernel
theorem d_M_close_34 : decode m_M_close.2.1 34 = .ok (.aload_n 0, 1) := by decide +kernel
theorem d_M_close_35 : decode m_M_close.2.1 35 = .ok (.getfield 330, 3) := by decide +kernel
theorem d_M_close_38 : decode m_M_close.2.1 38 = .ok (.iaload, 1) := by decide +kernel
theorem d_M_close_39 : decode m_M_close.2.1 39 = .ok (.istore_n 1, 1) := by decide +kernel
theorem d_M_close_40 : decode m_M_close.2.1 40 = .ok (.aload_n 0, 1) := by decide +kernel
theorem d_M_close_41 : decode m_M_close.2.1 41 = .ok (.sipush 1170, 3) := by decide +kernel
theorem d_M_close_44 : decode m_M_close.2.1 44 = .ok (.iload_n 1, 1) := by decide +kernel
theorem d_M_close_45 : decode m_M_close.2.1 45 = .ok (.iadd, 1) := by decide +kernel
theorem d_M_close_46 : decode m_M_close.2.1 46 = .ok (.aload_n 0, 1) := by decide +kernel
theorem d_M_close_47 : decode m_M_close.2.1 47 = .ok (.getfield 333, 3) := by decide +kernel
theorem d_M_close_50 : decode m_M_close.2.1 50 = .ok (.iload_n 1, 1) := by decide +kernel
theorem d_M_close_51 : decode m_M_close.2.1 51 = .ok (.isub, 1) := by decide +kernel
theorem d_M_close_52 : decode m_M_close.2.1 52 = .ok (.bipush 13, 2) := by decide +kernel
theorem d_M_close_54 : decode m_M_close.2.1 54 = .ok (.invokevirtual 336, 3) := by decide +kernel
theorem d_M_close_57 : decode m_M_close.2.1 57 = .ok (.istore_n 2, 1) := by decide +kernel
theorem d_M_close_58 : decode m_M_close.2.1 58 = .ok (.aload_n 0, 1) := by decide +kernel
theorem d_M_close_59 : decode m_M_close.2.1 59 = .ok (.iload_n 1, 1) := by decide +kernel
theorem d_M_close_60 : decode m_M_close.2.1 60 = .ok (.putfield 333, 3) := by decide +kernel
theorem d_M_close_63 : decode m_M_close.2.1 63 = .ok (.iload_n 2, 1) := by decide +kernel
theorem d_M_close_64 : decode m_M_close.2.1 64 = .ok (.ireturn, 1) := by decide +kernel
theorem d_M_found_0 : decode m_M_found.2.1 0 = .ok (.aload_n 0, 1) := by decide +kernel
theorem d_M_found_1 : decode m_M_found.2.1 1 = .ok (.getfield 33, 3) := by decide +kernel
theorem d_M_found_4 : decode m_M_found.2.1 4 = .ok (.iconst 1, 1) := by decide +kernel
theorem d_M_found_5 : decode m_M_found.2.1 5 = .ok (.isub, 1) := by decide +kernel
theorem d_M_found_6 : decode m_M_found.2.1 6 = .ok (.istore_n 3, 1) := by decide +kernel
theorem d_M_found_7 : decode m_M_found.2.1 7 = .ok (.iload_n 3, 1) := by decide +kernel
theorem d_M_found_8 : decode m_M_found.2.1 8 = .ok (.ifCond .lt 31, 3) := by decide +kernel
theorem d_M_found_11 : decode m_M_found.2.1 11 = .ok (.aload_n 0, 1) := by decide +kernel
theorem d_M_found_12 : decode m_M_found.2.1 12 = .ok (.aload_n 0, 1) := by decide +kernel
theorem d_M_found_13 : decode m_M_found.2.1 13 = .ok (.getfield 30, 3) := by decide +kernel
theorem d_M_found_16 : decode m_M_found.2.1 16 = .ok (.iload_n 3, 1) := by decide +kernel
theorem d_M_found_17 : decode m_M_found.2.1 17 = .ok (.iaload, 1) := by decide +kernel
theorem d_M_found_18 : decode m_M_found.2.1 18 = .ok (.lload_n 1, 1) := by decide +kernel
theorem d_M_found_19 : decode m_M_found.2.1 19 = .ok (.invokevirtual 362, 3) := by decide +kernel
theorem d_M_found_22 : decode m_M_found.2.1 22 = .ok (.istore 4, 2) := by decide +kernel
theorem d_M_found_24 : decode m_M_found.2.1 24 = .ok (.iload 4, 2) := by decide +kernel
theorem d_M_found_26 : decode m_M_found.2.1 26 = .ok (.iconst (-1), 1) := by decide +kernel
theorem d_M_found_27 : decode m_M_found.2.1 27 = .ok (.if_icmp .eq 6, 3) := by decide +kernel
theorem d_M_found_30 : decode m_M_found.2.1 30 = .ok (.iload 4, 2) := by decide +kernel
theorem d_M_found_32 : decode m_M_found.2.1 32 = .ok (.ireturn, 1) := by decide +kernel
theorem d_M_found_33 : decode m_M_found.2.1 33 = .ok (.iinc 3 (-1), 3) := by decide +kernel
theorem d_M_found_36 : decode m_M_found.2.1 36 = .ok (.goto (-29), 3) := by decide +kernel
theorem d_M_found_39 : decode m_M_found.2.1 39 = .ok (.iconst (-1), 1) := by decide +kernel
theorem d_M_found_40 : decode m_M_found.2.1 40 = .ok (.ireturn, 1) := by decide +kernel
theorem d_M_get_0 : decode m_M_get.2.1 0 = .ok (.aload_n 0, 1) := by decide +kernel
theorem d_M_get_1 : decode m_M_get.2.1 1 = .ok (.getfield 13, 3) := by decide +kernel
theorem d_M_get_4 : decode m_M_get.2.1 4 = .ok (.iload_n 1, 1) := by decide +kernel
theorem d_M_get_5 : decode m_M_get.2.1 5 = .ok (.iconst 1, 1) := by decide +kernel
theorem d_M_get_6 : decode m_M_get.2.1 6 = .ok (.isub, 1) := by decide +kernel
theorem d_M_get_7 : decode m_M_get.2.1 7 = .ok (.laload, 1) := by decide +kernel
theorem d_M_get_8 : decode m_M_get.2.1 8 = .ok (.lstore_n 2, 1) := by decide +kernel
theorem d_M_get_9 : decode m_M_get.2.1 9 = .ok (.aload_n 0, 1) := by decide +kernel
theorem d_M_get_10 : decode m_M_get.2.1 10 = .ok (.iload_n 1, 1) := by decide +kernel
theorem d_M_get_11 : decode m_M_get.2.1 11 = .ok (.iconst 1, 1) := by decide +kernel
theorem d_M_get_12 : decode m_M_get.2.1 12 = .ok (.isub, 1) := by decide +kernel
theorem d_M_get_13 : decode m_M_get.2.1 13 = .ok (.invokevirtual 421, 3) := by decide +kernel
theorem d_M_get_16 : decode m_M_get.2.1 16 = .ok (.bipush 6, 2) := by decide +kernel
theorem d_M_get_18 : decode m_M_get.2.1 18 = .ok (.if_icmp .ne 18, 3) := by decide +kernel
theorem d_M_get_21 : decode m_M_get.2.1 21 = .ok (.aload_n 0, 1) := by decide +kernel
theorem d_M_get_22 : decode m_M_get.2.1 22 = .ok (.lload_n 2, 1) := by decide +kernel
theorem d_M_get_23 : decode m_M_get.2.1 23 = .ok (.l2i, 1) := by decide +kernel
theorem d_M_get_24 : decode m_M_get.2.1 24 = .ok (.aload_n 0, 1) := by decide +kernel
theorem d_M_get_25 : decode m_M_get.2.1 25 = .ok (.getfield 13, 3) := by decide +kernel
theorem d_M_get_28 : decode m_M_get.2.1 28 = .ok (.iload_n 1, 1) := by decide +kernel
theorem d_M_get_29 : decode m_M_get.2.1 29 = .ok (.laload, 1) := by decide +kernel
theorem d_M_get_30 : decode m_M_get.2.1 30 = .ok (.invokevirtual 362, 3) := by decide +kernel
theorem d_M_get_33 : decode m_M_get.2.1 33 = .ok (.goto 48, 3) := by decide +kernel
theorem d_M_get_36 : decode m_M_get.2.1 36 = .ok (.aload_n 0, 1) := by decide +kernel
theorem d_M_get_37 : decode m_M_get.2.1 37 = .ok (.getfield 13, 3) := by decide +kernel
theorem d_M_get_40 : decode m_M_get.2.1 40 = .ok (.iload_n 1, 1) := by decide +kernel
theorem d_M_get_41 : decode m_M_get.2.1 41 = .ok (.laload, 1) := by decide +kernel
theorem d_M_get_42 : decode m_M_get.2.1 42 = .ok (.lconst 0, 1) := by decide +kernel
theorem d_M_get_43 : decode m_M_get.2.1 43 = .ok (.lcmp, 1) := by decide +kernel
theorem d_M_get_44 : decode m_M_get.2.1 44 = .ok (.ifCond .lt 18, 3) := by decide +kernel
theorem d_M_get_47 : decode m_M_get.2.1 47 = .ok (.aload_n 0, 1) := by decide +kernel
theorem d_M_get_48 : decode m_M_get.2.1 48 = .ok (.getfield 13, 3) := by decide +kernel
theorem d_M_get_51 : decode m_M_get.2.1 51 = .ok (.iload_n 1, 1) := by decide +kernel
theorem d_M_get_52 : decode m_M_get.2.1 52 = .ok (.laload, 1) := by decide +kernel
theorem d_M_get_53 : decode m_M_get.2.1 53 = .ok (.lload_n 2, 1) := by decide +kernel
theorem d_M_get_54 : decode m_M_get.2.1 54 = .ok (.invokestatic 391, 3) := by decide +kernel
theorem d_M_get_57 : decode m_M_get.2.1 57 = .ok (.i2l, 1) := by decide +kernel
theorem d_M_get_58 : decode m_M_get.2.1 58 = .ok (.lcmp, 1) := by decide +kernel
theorem d_M_get_59 : decode m_M_get.2.1 59 = .ok (.ifCond .lt 7, 3) := by decide +kernel
theorem d_M_get_62 : decode m_M_get.2.1 62 = .ok (.iconst (-1), 1) := by decide +kernel
theorem d_M_get_63 : decode m_M_get.2.1 63 = .ok (.goto 18, 3) := by decide +kernel
theorem d_M_get_66 : decode m_M_get.2.1 66 = .ok (.bipush 50, 2) := by decide +kernel
theorem d_M_get_68 : decode m_M_get.2.1 68 = .ok (.lload_n 2, 1) := by decide +kernel
theorem d_M_get_69 : decode m_M_get.2.1 69 = .ok (.invokestatic 394, 3) := by decide +kernel
theorem d_M_get_72 : decode m_M_get.2.1 72 = .ok (.iadd, 1) := by decide +kernel
theorem d_M_get_73 : decode m_M_get.2.1 73 = .ok (.aload_n 0, 1) := by decide +kernel
theorem d_M_get_74 : decode m_M_get.2.1 74 = .ok (.getfield 13, 3) := by decide +kernel
theorem d_M_get_77 : decode m_M_get.2.1 77 = .ok (.iload_n 1, 1) := by decide +kernel
theorem d_M_get_78 : decode m_M_get.2.1 78 = .ok (.laload, 1) := by decide +kernel
theorem d_M_get_79 : decode m_M_get.2.1 79 = .ok (.l2i, 1) := by decide +kernel
theorem d_M_get_80 : decode m_M_get.2.1 80 = .ok (.iadd, 1) := by decide +kernel
theorem d_M_get_81 : decode m_M_get.2.1 81 = .ok (.istore 4, 2) := by decide +kernel
theorem d_M_get_83 : decode m_M_get.2.1 83 = .ok (.iload 4, 2) := by decide +kernel
theorem d_M_get_85 : decode m_M_get.2.1 85 = .ok (.iconst (-1), 1) := by decide +kernel
theorem d_M_get_86 : decode m_M_get.2.1 86 = .ok (.if_icmp .ne 21, 3) := by decide +kernel
theorem d_M_get_89 : decode m_M_get.2.1 89 = .ok (.aload_n 0, 1) := by decide +kernel
theorem d_M_get_90 : decode m_M_get.2.1 90 = .ok (.iload_n 1, 1) := by decide +kernel
theorem d_M_get_91 : decode m_M_get.2.1 91 = .ok (.iconst 1, 1) := by decide +kernel
theorem d_M_get_92 : decode m_M_get.2.1 92 = .ok (.isub, 1) := by decide +kernel
theorem d_M_get_93 : decode m_M_get.2.1 93 = .ok (.invokevirtual 421, 3) := by decide +kernel
theorem d_M_get_96 : decode m_M_get.2.1 96 = .ok (.bipush 6, 2) := by decide +kernel
theorem d_M_get_98 : decode m_M_get.2.1 98 = .ok (.if_icmp .ne 7, 3) := by decide +kernel
theorem d_M_get_101 : decode m_M_get.2.1 101 = .ok (.iconst 5, 1) := by decide +kernel
theorem d_M_get_102 : decode m_M_get.2.1 102 = .ok (.goto 4, 3) := by decide +kernel
theorem d_M_get_105 : decode m_M_get.2.1 105 = .ok (.iconst 4, 1) := by decide +kernel
theorem d_M_get_106 : decode m_M_get.2.1 106 = .ok (.ireturn, 1) := by decide +kernel
theorem d_M_get_107 : decode m_M_get.2.1 107 = .ok (.aload_n 0, 1) := by decide +kernel
theorem d_M_get_108 : decode m_M_get.2.1 108 = .ok (.iload_n 1, 1) := by decide +kernel
theorem d_M_get_109 : decode m_M_get.2.1 109 = .ok (.iconst 1, 1) := by decide +kernel
theorem d_M_get_110 : decode m_M_get.2.1 110 = .ok (.isub, 1) := by decide +kernel
theorem d_M_get_111 : decode m_M_get.2.1 111 = .ok (.iload 4, 2) := by decide +kernel
theorem d_M_get_113 : decode m_M_get.2.1 113 = .ok (.invokevirtual 254, 3) := by decide +kernel
theorem d_M_get_116 : decode m_M_get.2.1 116 = .ok (.aload_n 0, 1) := by decide +kernel
theorem d_M_get_117 : decode m_M_get.2.1 117 = .ok (.dup, 1) := by decide +kernel
theorem d_M_get_118 : decode m_M_get.2.1 118 = .ok (.getfield 247, 3) := by decide +kernel
theorem d_M_get_121 : decode m_M_get.2.1 121 = .ok (.iconst 1, 1) := by decide +kernel
theorem d_M_get_122 : decode m_M_get.2.1 122 = .ok (.isub, 1) := by decide +kernel
theorem d_M_get_123 : decode m_M_get.2.1 123 = .ok (.putfield 247, 3) := by decide +kernel
theorem d_M_get_126 : decode m_M_get.2.1 126 = .ok (.iconst 0, 1) := by decide +kernel
theorem d_M_get_127 : decode m_M_get.2.1 127 = .ok (.ireturn, 1) := by decide +kernel
theorem d_M_giveExact_0 : decode m_M_giveExact.2.1 0 = .ok (.lload_n 2, 1) := by decide +kernel
theorem d_M_giveExact_1 : decode m_M_giveExact.2.1 1 = .ok (.lload_n 2, 1) := by decide +kernel
theorem d_M_giveExact_2 : decode m_M_giveExact.2.1 2 = .ok (.l2i, 1) := by decide +kernel
theorem d_M_giveExact_3 : decode m_M_giveExact.2.1 3 = .ok (.i2l, 1) := by decide +kernel
theorem d_M_giveExact_4 : decode m_M_giveExact.2.1 4 = .ok (.lcmp, 1) := by decide +kernel
theorem d_M_giveExact_5 : decode m_M_giveExact.2.1 5 = .ok (.ifCond .ne 13, 3) := by decide +kernel
theorem d_M_giveExact_8 : decode m_M_giveExact.2.1 8 = .ok (.aload_n 0, 1) := by decide +kernel
theorem d_M_giveExact_9 : decode m_M_giveExact.2.1 9 = .ok (.iload_n 1, 1) := by decide +kernel
theorem d_M_giveExact_10 : decode m_M_giveExact.2.1 10 = .ok (.iconst 0, 1) := by decide +kernel
theorem d_M_giveExact_11 : decode m_M_giveExact.2.1 11 = .ok (.lload_n 2, 1) := by decide +kernel
theorem d_M_giveExact_12 : decode m_M_giveExact.2.1 12 = .ok (.invokevirtual 262, 3) := by decide +kernel
theorem d_M_giveExact_15 : decode m_M_giveExact.2.1 15 = .ok (.goto 10, 3) := by decide +kernel
theorem d_M_giveExact_18 : decode m_M_giveExact.2.1 18 = .ok (.aload_n 0, 1) := by decide +kernel
theorem d_M_giveExact_19 : decode m_M_giveExact.2.1 19 = .ok (.iload_n 1, 1) := by decide +kernel
theorem d_M_giveExact_20 : decode m_M_giveExact.2.1 20 = .ok (.lload_n 2, 1) := by decide +kernel
theorem d_M_giveExact_21 : decode m_M_giveExact.2.1 21 = .ok (.l2d, 1) := by decide +kernel
theorem d_M_giveExact_22 : decode m_M_giveExact.2.1 22 = .ok (.invokevirtual 266, 3) := by decide +kernel
theorem d_M_giveExact_25 : decode m_M_giveExact.2.1 25 = .ok (.ireturn, 1) := by decide +kernel
theorem d_M_newDict_0 : decode m_M_newDict.2.1 0 = .ok (.lload_n 1, 1) := by decide +kernel
theorem d_M_newDict_1 : decode m_M_newDict.2.1 1 = .ok (.lconst 1, 1) := by decide +kernel
theorem d_M_newDict_2 : decode m_M_newDict.2.1 2 = .ok (.lcmp, 1) := by decide +kernel
theorem d_M_newDict_3 : decode m_M_newDict.2.1 3 = .ok (.ifCond .lt 11, 3) := by decide +kernel
theorem d_M_newDict_6 : decode m_M_newDict.2.1 6 = .ok (.lload_n 1, 1) := by decide +kernel
theorem d_M_newDict_7 : decode m_M_newDict.2.1 7 = .ok (.ldc2_w 277, 3) := by decide +kernel
theorem d_M_newDict_10 : decode m_M_newDict.2.1 10 = .ok (.lcmp, 1) := by decide +kernel
theorem d_M_newDict_11 : decode m_M_newDict.2.1 11 = .ok (.ifCond .le 5, 3) := by decide +kernel
theorem d_M_newDict_14 : decode m_M_newDict.2.1 14 = .ok (.iconst 4, 1) := by decide +kernel
theorem d_M_newDict_15 : decode m_M_newDict.2.1 15 = .ok (.ireturn, 1) := by decide +kernel
theorem d_M_newDict_16 : decode m_M_newDict.2.1 16 = .ok (.iconst 1, 1) := by decide +kernel
theorem d_M_newDict_17 : decode m_M_newDict.2.1 17 = .ok (.istore_n 3, 1) := by decide +kernel
theorem d_M_newDict_18 : decode m_M_newDict.2.1 18 = .ok (.iload_n 3, 1) := by decide +kernel
theorem d_M_newDict_19 : decode m_M_newDict.2.1 19 = .ok (.bipush 7, 2) := by decide +kernel
theorem d_M_newDict_21 : decode m_M_newDict.2.1 21 = .ok (.if_icmp .ge 18, 3) := by decide +kernel
theorem d_M_newDict_24 : decode m_M_newDict.2.1 24 = .ok (.aload_n 0, 1) := by decide +kernel
theorem d_M_newDict_25 : decode m_M_newDict.2.1 25 = .ok (.getfield 27, 3) := by decide +kernel
theorem d_M_newDict_28 : decode m_M_newDict.2.1 28 = .ok (.iload_n 3, 1) := by decide +kernel
theorem d_M_newDict_29 : decode m_M_newDict.2.1 29 = .ok (.iaload, 1) := by decide +kernel
theorem d_M_newDict_30 : decode m_M_newDict.2.1 30 = .ok (.ifCond .le 9, 3) := by decide +kernel
theorem d_M_newDict_33 : decode m_M_newDict.2.1 33 = .ok (.iinc 3 1, 3) := by decide +kernel
theorem d_M_newDict_36 : decode m_M_newDict.2.1 36 = .ok (.goto (-18), 3) := by decide +kernel
theorem d_M_newDict_39 : decode m_M_newDict.2.1 39 = .ok (.iload_n 3, 1) := by decide +kernel
theorem d_M_newDict_40 : decode m_M_newDict.2.1 40 = .ok (.bipush 7, 2) := by decide +kernel
theorem d_M_newDict_42 : decode m_M_newDict.2.1 42 = .ok (.if_icmp .ne 6, 3) := by decide +kernel
theorem d_M_newDict_45 : decode m_M_newDict.2.1 45 = .ok (.bipush 7, 2) := by decide +kernel
theorem d_M_newDict_47 : decode m_M_newDict.2.1 47 = .ok (.ireturn, 1) := by decide +kernel
theorem d_M_newDict_48 : decode m_M_newDict.2.1 48 = .ok (.aload_n 0, 1) := by decide +kernel
theorem d_M_newDict_49 : decode m_M_newDict.2.1 49 = .ok (.getfield 27, 3) := by decide +kernel
theorem d_M_newDict_52 : decode m_M_newDict.2.1 52 = .ok (.iload_n 3, 1) := by decide +kernel
theorem d_M_newDict_53 : decode m_M_newDict.2.1 53 = .ok (.lload_n 1, 1) := by decide +kernel
theorem d_M_newDict_54 : decode m_M_newDict.2.1 54 = .ok (.l2i, 1) := by decide +kernel
theorem d_M_newDict_55 : decode m_M_newDict.2.1 55 = .ok (.iastore, 1) := by decide +kernel
theorem d_M_newDict_56 : decode m_M_newDict.2.1 56 = .ok (.aload_n 0, 1) := by decide +kernel
theorem d_M_newDict_57 : decode m_M_newDict.2.1 57 = .ok (.getfield 24, 3) := by decide +kernel
theorem d_M_newDict_60 : decode m_M_newDict.2.1 60 = .ok (.iload_n 3, 1) := by decide +kernel
theorem d_M_newDict_61 : decode m_M_newDict.2.1 61 = .ok (.iconst 0, 1) := by decide +kernel
theorem d_M_newDict_62 : decode m_M_newDict.2.1 62 = .ok (.iastore, 1) := by decide +kernel
theorem d_M_newDict_63 : decode m_M_newDict.2.1 63 = .ok (.aload_n 0, 1) := by decide +kernel
