theorem d_M_alike_52 : decode m_M_alike.2.1 52 = .ok (.iload_n 1, 1) := by decide +kernel
theorem d_M_alike_53 : decode m_M_alike.2.1 53 = .ok (.invokevirtual 421, 3) := by decide +kernel
theorem d_M_alike_56 : decode m_M_alike.2.1 56 = .ok (.iconst 5, 1) := by decide +kernel
theorem d_M_alike_57 : decode m_M_alike.2.1 57 = .ok (.if_icmp .ne 58, 3) := by decide +kernel
theorem d_M_alike_60 : decode m_M_alike.2.1 60 = .ok (.aload_n 0, 1) := by decide +kernel
theorem d_M_alike_61 : decode m_M_alike.2.1 61 = .ok (.getfield 13, 3) := by decide +kernel
theorem d_M_alike_64 : decode m_M_alike.2.1 64 = .ok (.iload_n 1, 1) := by decide +kernel
theorem d_M_alike_65 : decode m_M_alike.2.1 65 = .ok (.laload, 1) := by decide +kernel
theorem d_M_alike_66 : decode m_M_alike.2.1 66 = .ok (.invokestatic 391, 3) := by decide +kernel
theorem d_M_alike_69 : decode m_M_alike.2.1 69 = .ok (.aload_n 0, 1) := by decide +kernel
theorem d_M_alike_70 : decode m_M_alike.2.1 70 = .ok (.getfield 13, 3) := by decide +kernel
theorem d_M_alike_73 : decode m_M_alike.2.1 73 = .ok (.iload_n 2, 1) := by decide +kernel
theorem d_M_alike_74 : decode m_M_alike.2.1 74 = .ok (.laload, 1) := by decide +kernel
theorem d_M_alike_75 : decode m_M_alike.2.1 75 = .ok (.invokestatic 391, 3) := by decide +kernel
theorem d_M_alike_78 : decode m_M_alike.2.1 78 = .ok (.if_icmp .ne 35, 3) := by decide +kernel
theorem d_M_alike_81 : decode m_M_alike.2.1 81 = .ok (.aload_n 0, 1) := by decide +kernel
theorem d_M_alike_82 : decode m_M_alike.2.1 82 = .ok (.getfield 13, 3) := by decide +kernel
theorem d_M_alike_85 : decode m_M_alike.2.1 85 = .ok (.iload_n 1, 1) := by decide +kernel
theorem d_M_alike_86 : decode m_M_alike.2.1 86 = .ok (.laload, 1) := by decide +kernel
theorem d_M_alike_87 : decode m_M_alike.2.1 87 = .ok (.invokestatic 391, 3) := by decide +kernel
theorem d_M_alike_90 : decode m_M_alike.2.1 90 = .ok (.ifCond .eq 19, 3) := by decide +kernel
theorem d_M_alike_93 : decode m_M_alike.2.1 93 = .ok (.aload_n 0, 1) := by decide +kernel
theorem d_M_alike_94 : decode m_M_alike.2.1 94 = .ok (.getfield 13, 3) := by decide +kernel
theorem d_M_alike_97 : decode m_M_alike.2.1 97 = .ok (.iload_n 1, 1) := by decide +kernel
theorem d_M_alike_98 : decode m_M_alike.2.1 98 = .ok (.laload, 1) := by decide +kernel
theorem d_M_alike_99 : decode m_M_alike.2.1 99 = .ok (.aload_n 0, 1) := by decide +kernel
theorem d_M_alike_100 : decode m_M_alike.2.1 100 = .ok (.getfield 13, 3) := by decide +kernel
theorem d_M_alike_103 : decode m_M_alike.2.1 103 = .ok (.iload_n 2, 1) := by decide +kernel
theorem d_M_alike_104 : decode m_M_alike.2.1 104 = .ok (.laload, 1) := by decide +kernel
theorem d_M_alike_105 : decode m_M_alike.2.1 105 = .ok (.lcmp, 1) := by decide +kernel
theorem d_M_alike_106 : decode m_M_alike.2.1 106 = .ok (.ifCond .ne 7, 3) := by decide +kernel
theorem d_M_alike_109 : decode m_M_alike.2.1 109 = .ok (.iconst 1, 1) := by decide +kernel
theorem d_M_alike_110 : decode m_M_alike.2.1 110 = .ok (.goto 4, 3) := by decide +kernel
theorem d_M_alike_113 : decode m_M_alike.2.1 113 = .ok (.iconst 0, 1) := by decide +kernel
theorem d_M_alike_114 : decode m_M_alike.2.1 114 = .ok (.ireturn, 1) := by decide +kernel
theorem d_M_alike_115 : decode m_M_alike.2.1 115 = .ok (.aload_n 0, 1) := by decide +kernel
theorem d_M_alike_116 : decode m_M_alike.2.1 116 = .ok (.getfield 13, 3) := by decide +kernel
theorem d_M_alike_119 : decode m_M_alike.2.1 119 = .ok (.iload_n 1, 1) := by decide +kernel
theorem d_M_alike_120 : decode m_M_alike.2.1 120 = .ok (.laload, 1) := by decide +kernel
theorem d_M_alike_121 : decode m_M_alike.2.1 121 = .ok (.aload_n 0, 1) := by decide +kernel
theorem d_M_alike_122 : decode m_M_alike.2.1 122 = .ok (.getfield 13, 3) := by decide +kernel
theorem d_M_alike_125 : decode m_M_alike.2.1 125 = .ok (.iload_n 2, 1) := by decide +kernel
theorem d_M_alike_126 : decode m_M_alike.2.1 126 = .ok (.laload, 1) := by decide +kernel
theorem d_M_alike_127 : decode m_M_alike.2.1 127 = .ok (.lcmp, 1) := by decide +kernel
theorem d_M_alike_128 : decode m_M_alike.2.1 128 = .ok (.ifCond .ne 7, 3) := by decide +kernel
theorem d_M_alike_131 : decode m_M_alike.2.1 131 = .ok (.iconst 1, 1) := by decide +kernel
theorem d_M_alike_132 : decode m_M_alike.2.1 132 = .ok (.goto 4, 3) := by decide +kernel
theorem d_M_alike_135 : decode m_M_alike.2.1 135 = .ok (.iconst 0, 1) := by decide +kernel
theorem d_M_alike_136 : decode m_M_alike.2.1 136 = .ok (.ireturn, 1) := by decide +kernel
theorem d_M_copyAll_0 : decode m_M_copyAll.2.1 0 = .ok (.iconst 0, 1) := by decide +kernel
theorem d_M_copyAll_1 : decode m_M_copyAll.2.1 1 = .ok (.istore_n 3, 1) := by decide +kernel
theorem d_M_copyAll_2 : decode m_M_copyAll.2.1 2 = .ok (.iload_n 3, 1) := by decide +kernel
theorem d_M_copyAll_3 : decode m_M_copyAll.2.1 3 = .ok (.sipush 280, 3) := by decide +kernel
theorem d_M_copyAll_6 : decode m_M_copyAll.2.1 6 = .ok (.if_icmp .ge 57, 3) := by decide +kernel
theorem d_M_copyAll_9 : decode m_M_copyAll.2.1 9 = .ok (.aload_n 0, 1) := by decide +kernel
theorem d_M_copyAll_10 : decode m_M_copyAll.2.1 10 = .ok (.iload_n 1, 1) := by decide +kernel
theorem d_M_copyAll_11 : decode m_M_copyAll.2.1 11 = .ok (.ifCond .ne 8, 3) := by decide +kernel
theorem d_M_copyAll_14 : decode m_M_copyAll.2.1 14 = .ok (.bipush 50, 2) := by decide +kernel
theorem d_M_copyAll_16 : decode m_M_copyAll.2.1 16 = .ok (.goto 14, 3) := by decide +kernel
theorem d_M_copyAll_19 : decode m_M_copyAll.2.1 19 = .ok (.sipush 330, 3) := by decide +kernel
theorem d_M_copyAll_22 : decode m_M_copyAll.2.1 22 = .ok (.sipush 280, 3) := by decide +kernel
theorem d_M_copyAll_25 : decode m_M_copyAll.2.1 25 = .ok (.iload_n 1, 1) := by decide +kernel
theorem d_M_copyAll_26 : decode m_M_copyAll.2.1 26 = .ok (.iconst 1, 1) := by decide +kernel
theorem d_M_copyAll_27 : decode m_M_copyAll.2.1 27 = .ok (.isub, 1) := by decide +kernel
theorem d_M_copyAll_28 : decode m_M_copyAll.2.1 28 = .ok (.imul, 1) := by decide +kernel
theorem d_M_copyAll_29 : decode m_M_copyAll.2.1 29 = .ok (.iadd, 1) := by decide +kernel
theorem d_M_copyAll_30 : decode m_M_copyAll.2.1 30 = .ok (.iload_n 3, 1) := by decide +kernel
theorem d_M_copyAll_31 : decode m_M_copyAll.2.1 31 = .ok (.iadd, 1) := by decide +kernel
theorem d_M_copyAll_32 : decode m_M_copyAll.2.1 32 = .ok (.iload_n 2, 1) := by decide +kernel
theorem d_M_copyAll_33 : decode m_M_copyAll.2.1 33 = .ok (.ifCond .ne 8, 3) := by decide +kernel
theorem d_M_copyAll_36 : decode m_M_copyAll.2.1 36 = .ok (.bipush 50, 2) := by decide +kernel
theorem d_M_copyAll_38 : decode m_M_copyAll.2.1 38 = .ok (.goto 14, 3) := by decide +kernel
theorem d_M_copyAll_41 : decode m_M_copyAll.2.1 41 = .ok (.sipush 330, 3) := by decide +kernel
theorem d_M_copyAll_44 : decode m_M_copyAll.2.1 44 = .ok (.sipush 280, 3) := by decide +kernel
theorem d_M_copyAll_47 : decode m_M_copyAll.2.1 47 = .ok (.iload_n 2, 1) := by decide +kernel
theorem d_M_copyAll_48 : decode m_M_copyAll.2.1 48 = .ok (.iconst 1, 1) := by decide +kernel
theorem d_M_copyAll_49 : decode m_M_copyAll.2.1 49 = .ok (.isub, 1) := by decide +kernel
theorem d_M_copyAll_50 : decode m_M_copyAll.2.1 50 = .ok (.imul, 1) := by decide +kernel
theorem d_M_copyAll_51 : decode m_M_copyAll.2.1 51 = .ok (.iadd, 1) := by decide +kernel
theorem d_M_copyAll_52 : decode m_M_copyAll.2.1 52 = .ok (.iload_n 3, 1) := by decide +kernel
theorem d_M_copyAll_53 : decode m_M_copyAll.2.1 53 = .ok (.iadd, 1) := by decide +kernel
theorem d_M_copyAll_54 : decode m_M_copyAll.2.1 54 = .ok (.invokevirtual 254, 3) := by decide +kernel
theorem d_M_copyAll_57 : decode m_M_copyAll.2.1 57 = .ok (.iinc 3 1, 3) := by decide +kernel
theorem d_M_copyAll_60 : decode m_M_copyAll.2.1 60 = .ok (.goto (-58), 3) := by decide +kernel
theorem d_M_copyAll_63 : decode m_M_copyAll.2.1 63 = .ok (.iconst 0, 1) := by decide +kernel
theorem d_M_copyAll_64 : decode m_M_copyAll.2.1 64 = .ok (.istore_n 3, 1) := by decide +kernel
theorem d_M_copyAll_65 : decode m_M_copyAll.2.1 65 = .ok (.iload_n 3, 1) := by decide +kernel
theorem d_M_copyAll_66 : decode m_M_copyAll.2.1 66 = .ok (.bipush 80, 2) := by decide +kernel
theorem d_M_copyAll_68 : decode m_M_copyAll.2.1 68 = .ok (.if_icmp .ge 31, 3) := by decide +kernel
theorem d_M_copyAll_71 : decode m_M_copyAll.2.1 71 = .ok (.aload_n 0, 1) := by decide +kernel
theorem d_M_copyAll_72 : decode m_M_copyAll.2.1 72 = .ok (.getfield 21, 3) := by decide +kernel
theorem d_M_copyAll_75 : decode m_M_copyAll.2.1 75 = .ok (.bipush 80, 2) := by decide +kernel
theorem d_M_copyAll_77 : decode m_M_copyAll.2.1 77 = .ok (.iload_n 1, 1) := by decide +kernel
theorem d_M_copyAll_78 : decode m_M_copyAll.2.1 78 = .ok (.imul, 1) := by decide +kernel
theorem d_M_copyAll_79 : decode m_M_copyAll.2.1 79 = .ok (.iload_n 3, 1) := by decide +kernel
theorem d_M_copyAll_80 : decode m_M_copyAll.2.1 80 = .ok (.iadd, 1) := by decide +kernel
theorem d_M_copyAll_81 : decode m_M_copyAll.2.1 81 = .ok (.aload_n 0, 1) := by decide +kernel
theorem d_M_copyAll_82 : decode m_M_copyAll.2.1 82 = .ok (.getfield 21, 3) := by decide +kernel
theorem d_M_copyAll_85 : decode m_M_copyAll.2.1 85 = .ok (.bipush 80, 2) := by decide +kernel
theorem d_M_copyAll_87 : decode m_M_copyAll.2.1 87 = .ok (.iload_n 2, 1) := by decide +kernel
theorem d_M_copyAll_88 : decode m_M_copyAll.2.1 88 = .ok (.imul, 1) := by decide +kernel
theorem d_M_copyAll_89 : decode m_M_copyAll.2.1 89 = .ok (.iload_n 3, 1) := by decide +kernel
theorem d_M_copyAll_90 : decode m_M_copyAll.2.1 90 = .ok (.iadd, 1) := by decide +kernel
theorem d_M_copyAll_91 : decode m_M_copyAll.2.1 91 = .ok (.laload, 1) := by decide +kernel
theorem d_M_copyAll_92 : decode m_M_copyAll.2.1 92 = .ok (.lastore, 1) := by decide +kernel
theorem d_M_copyAll_93 : decode m_M_copyAll.2.1 93 = .ok (.iinc 3 1, 3) := by decide +kernel
theorem d_M_copyAll_96 : decode m_M_copyAll.2.1 96 = .ok (.goto (-31), 3) := by decide +kernel
theorem d_M_copyAll_99 : decode m_M_copyAll.2.1 99 = .ok (.iconst 0, 1) := by decide +kernel
theorem d_M_copyAll_100 : decode m_M_copyAll.2.1 100 = .ok (.istore_n 3, 1) := by decide +kernel
theorem d_M_copyAll_101 : decode m_M_copyAll.2.1 101 = .ok (.iload_n 3, 1) := by decide +kernel
theorem d_M_copyAll_102 : decode m_M_copyAll.2.1 102 = .ok (.bipush 7, 2) := by decide +kernel
theorem d_M_copyAll_104 : decode m_M_copyAll.2.1 104 = .ok (.if_icmp .ge 53, 3) := by decide +kernel
theorem d_M_copyAll_107 : decode m_M_copyAll.2.1 107 = .ok (.aload_n 0, 1) := by decide +kernel
theorem d_M_copyAll_108 : decode m_M_copyAll.2.1 108 = .ok (.getfield 24, 3) := by decide +kernel
theorem d_M_copyAll_111 : decode m_M_copyAll.2.1 111 = .ok (.bipush 7, 2) := by decide +kernel
theorem d_M_copyAll_113 : decode m_M_copyAll.2.1 113 = .ok (.iload_n 1, 1) := by decide +kernel
theorem d_M_copyAll_114 : decode m_M_copyAll.2.1 114 = .ok (.imul, 1) := by decide +kernel
theorem d_M_copyAll_115 : decode m_M_copyAll.2.1 115 = .ok (.iload_n 3, 1) := by decide +kernel
theorem d_M_copyAll_116 : decode m_M_copyAll.2.1 116 = .ok (.iadd, 1) := by decide +kernel
theorem d_M_copyAll_117 : decode m_M_copyAll.2.1 117 = .ok (.aload_n 0, 1) := by decide +kernel
theorem d_M_copyAll_118 : decode m_M_copyAll.2.1 118 = .ok (.getfield 24, 3) := by decide +kernel
theorem d_M_copyAll_121 : decode m_M_copyAll.2.1 121 = .ok (.bipush 7, 2) := by decide +kernel
theorem d_M_copyAll_123 : decode m_M_copyAll.2.1 123 = .ok (.iload_n 2, 1) := by decide +kernel
theorem d_M_copyAll_124 : decode m_M_copyAll.2.1 124 = .ok (.imul, 1) := by decide +kernel
theorem d_M_copyAll_125 : decode m_M_copyAll.2.1 125 = .ok (.iload_n 3, 1) := by decide +kernel
theorem d_M_copyAll_126 : decode m_M_copyAll.2.1 126 = .ok (.iadd, 1) := by decide +kernel
theorem d_M_copyAll_127 : decode m_M_copyAll.2.1 127 = .ok (.iaload, 1) := by decide +kernel
theorem d_M_copyAll_128 : decode m_M_copyAll.2.1 128 = .ok (.iastore, 1) := by decide +kernel
theorem d_M_copyAll_129 : decode m_M_copyAll.2.1 129 = .ok (.aload_n 0, 1) := by decide +kernel
theorem d_M_copyAll_130 : decode m_M_copyAll.2.1 130 = .ok (.getfield 27, 3) := by decide +kernel
theorem d_M_copyAll_133 : decode m_M_copyAll.2.1 133 = .ok (.bipush 7, 2) := by decide +kernel
theorem d_M_copyAll_135 : decode m_M_copyAll.2.1 135 = .ok (.iload_n 1, 1) := by decide +kernel
theorem d_M_copyAll_136 : decode m_M_copyAll.2.1 136 = .ok (.imul, 1) := by decide +kernel
theorem d_M_copyAll_137 : decode m_M_copyAll.2.1 137 = .ok (.iload_n 3, 1) := by decide +kernel
theorem d_M_copyAll_138 : decode m_M_copyAll.2.1 138 = .ok (.iadd, 1) := by decide +kernel
theorem d_M_copyAll_139 : decode m_M_copyAll.2.1 139 = .ok (.aload_n 0, 1) := by decide +kernel
theorem d_M_copyAll_140 : decode m_M_copyAll.2.1 140 = .ok (.getfield 27, 3) := by decide +kernel
theorem d_M_copyAll_143 : decode m_M_copyAll.2.1 143 = .ok (.bipush 7, 2) := by decide +kernel
theorem d_M_copyAll_145 : decode m_M_copyAll.2.1 145 = .ok (.iload_n 2, 1) := by decide +kernel
theorem d_M_copyAll_146 : decode m_M_copyAll.2.1 146 = .ok (.imul, 1) := by decide +kernel
theorem d_M_copyAll_147 : decode m_M_copyAll.2.1 147 = .ok (.iload_n 3, 1) := by decide +kernel
theorem d_M_copyAll_148 : decode m_M_copyAll.2.1 148 = .ok (.iadd, 1) := by decide +kernel
theorem d_M_copyAll_149 : decode m_M_copyAll.2.1 149 = .ok (.iaload, 1) := by decide +kernel
theorem d_M_copyAll_150 : decode m_M_copyAll.2.1 150 = .ok (.iastore, 1) := by decide +kernel
theorem d_M_copyAll_151 : decode m_M_copyAll.2.1 151 = .ok (.iinc 3 1, 3) := by decide +kernel
theorem d_M_copyAll_154 : decode m_M_copyAll.2.1 154 = .ok (.goto (-53), 3) := by decide +kernel
theorem d_M_copyAll_157 : decode m_M_copyAll.2.1 157 = .ok (.return_, 1) := by decide +kernel
theorem d_M_digits_0 : decode m_M_digits.2.1 0 = .ok (.iconst 0, 1) := by decide +kernel
theorem d_M_digits_1 : decode m_M_digits.2.1 1 = .ok (.istore_n 2, 1) := by decide +kernel
theorem d_M_digits_2 : decode m_M_digits.2.1 2 = .ok (.iload_n 1, 1) := by decide +kernel
theorem d_M_digits_3 : decode m_M_digits.2.1 3 = .ok (.iload_n 2, 1) := by decide +kernel
theorem d_M_digits_4 : decode m_M_digits.2.1 4 = .ok (.iadd, 1) := by decide +kernel
theorem d_M_digits_5 : decode m_M_digits.2.1 5 = .ok (.aload_n 0, 1) := by decide +kernel
theorem d_M_digits_6 : decode m_M_digits.2.1 6 = .ok (.getfield 270, 3) := by decide +kernel
theorem d_M_digits_9 : decode m_M_digits.2.1 9 = .ok (.if_icmp .ge 23, 3) := by decide +kernel
theorem d_M_digits_12 : decode m_M_digits.2.1 12 = .ok (.aload_n 0, 1) := by decide +kernel
theorem d_M_digits_13 : decode m_M_digits.2.1 13 = .ok (.getfield 61, 3) := by decide +kernel
theorem d_M_digits_16 : decode m_M_digits.2.1 16 = .ok (.iload_n 1, 1) := by decide +kernel
theorem d_M_digits_17 : decode m_M_digits.2.1 17 = .ok (.iload_n 2, 1) := by decide +kernel
theorem d_M_digits_18 : decode m_M_digits.2.1 18 = .ok (.iadd, 1) := by decide +kernel
theorem d_M_digits_19 : decode m_M_digits.2.1 19 = .ok (.caload, 1) := by decide +kernel
theorem d_M_digits_20 : decode m_M_digits.2.1 20 = .ok (.invokestatic 273, 3) := by decide +kernel
theorem d_M_digits_23 : decode m_M_digits.2.1 23 = .ok (.ifCond .eq 9, 3) := by decide +kernel
theorem d_M_digits_26 : decode m_M_digits.2.1 26 = .ok (.iinc 2 1, 3) := by decide +kernel
theorem d_M_digits_29 : decode m_M_digits.2.1 29 = .ok (.goto (-27), 3) := by decide +kernel
theorem d_M_digits_32 : decode m_M_digits.2.1 32 = .ok (.iload_n 2, 1) := by decide +kernel
theorem d_M_digits_33 : decode m_M_digits.2.1 33 = .ok (.ireturn, 1) := by decide +kernel
theorem d_M_entry_0 : decode m_M_entry.2.1 0 = .ok (.iload_n 1, 1) := by decide +kernel
theorem d_M_entry_1 : decode m_M_entry.2.1 1 = .ok (.invokestatic 516, 3) := by decide +kernel
theorem d_M_entry_4 : decode m_M_entry.2.1 4 = .ok (.istore 4, 2) := by decide +kernel
theorem d_M_entry_6 : decode m_M_entry.2.1 6 = .ok (.iload 4, 2) := by decide +kernel
theorem d_M_entry_8 : decode m_M_entry.2.1 8 = .ok (.iload_n 1, 1) := by decide +kernel
theorem d_M_entry_9 : decode m_M_entry.2.1 9 = .ok (.invokestatic 516, 3) := by decide +kernel
theorem d_M_entry_12 : decode m_M_entry.2.1 12 = .ok (.aload_n 0, 1) := by decide +kernel
theorem d_M_entry_13 : decode m_M_entry.2.1 13 = .ok (.getfield 24, 3) := by decide +kernel
theorem d_M_entry_16 : decode m_M_entry.2.1 16 = .ok (.iload_n 1, 1) := by decide +kernel
theorem d_M_entry_17 : decode m_M_entry.2.1 17 = .ok (.iaload, 1) := by decide +kernel
theorem d_M_entry_18 : decode m_M_entry.2.1 18 = .ok (.iadd, 1) := by decide +kernel
theorem d_M_entry_19 : decode m_M_entry.2.1 19 = .ok (.if_icmp .ge 28, 3) := by decide +kernel
theorem d_M_entry_22 : decode m_M_entry.2.1 22 = .ok (.aload_n 0, 1) := by decide +kernel
theorem d_M_entry_23 : decode m_M_entry.2.1 23 = .ok (.getfield 21, 3) := by decide +kernel
theorem d_M_entry_26 : decode m_M_entry.2.1 26 = .ok (.iload 4, 2) := by decide +kernel
theorem d_M_entry_28 : decode m_M_entry.2.1 28 = .ok (.laload, 1) := by decide +kernel
theorem d_M_entry_29 : decode m_M_entry.2.1 29 = .ok (.lload_n 2, 1) := by decide +kernel
theorem d_M_entry_30 : decode m_M_entry.2.1 30 = .ok (.lcmp, 1) := by decide +kernel
theorem d_M_entry_31 : decode m_M_entry.2.1 31 = .ok (.ifCond .ne 10, 3) := by decide +kernel
theorem d_M_entry_34 : decode m_M_entry.2.1 34 = .ok (.sipush 250, 3) := by decide +kernel
theorem d_M_entry_37 : decode m_M_entry.2.1 37 = .ok (.iload 4, 2) := by decide +kernel
theorem d_M_entry_39 : decode m_M_entry.2.1 39 = .ok (.iadd, 1) := by decide +kernel
theorem d_M_entry_40 : decode m_M_entry.2.1 40 = .ok (.ireturn, 1) := by decide +kernel
theorem d_M_entry_41 : decode m_M_entry.2.1 41 = .ok (.iinc 4 1, 3) := by decide +kernel
theorem d_M_entry_44 : decode m_M_entry.2.1 44 = .ok (.goto (-38), 3) := by decide +kernel
theorem d_M_entry_47 : decode m_M_entry.2.1 47 = .ok (.iconst (-1), 1) := by decide +kernel
theorem d_M_entry_48 : decode m_M_entry.2.1 48 = .ok (.ireturn, 1) := by decide +kernel
theorem d_M_exit_0 : decode m_M_exit.2.1 0 = .ok (.aload_n 0, 1) := by decide +kernel
theorem d_M_exit_1 : decode m_M_exit.2.1 1 = .ok (.getfield 346, 3) := by decide +kernel
theorem d_M_exit_4 : decode m_M_exit.2.1 4 = .ok (.iconst 1, 1) := by decide +kernel
theorem d_M_exit_5 : decode m_M_exit.2.1 5 = .ok (.isub, 1) := by decide +kernel
theorem d_M_exit_6 : decode m_M_exit.2.1 6 = .ok (.istore_n 1, 1) := by decide +kernel
theorem d_M_exit_7 : decode m_M_exit.2.1 7 = .ok (.iload_n 1, 1) := by decide +kernel
theorem d_M_exit_8 : decode m_M_exit.2.1 8 = .ok (.ifCond .lt 19, 3) := by decide +kernel
theorem d_M_exit_11 : decode m_M_exit.2.1 11 = .ok (.aload_n 0, 1) := by decide +kernel
theorem d_M_exit_12 : decode m_M_exit.2.1 12 = .ok (.getfield 43, 3) := by decide +kernel
theorem d_M_exit_15 : decode m_M_exit.2.1 15 = .ok (.iload_n 1, 1) := by decide +kernel
theorem d_M_exit_16 : decode m_M_exit.2.1 16 = .ok (.iaload, 1) := by decide +kernel
theorem d_M_exit_17 : decode m_M_exit.2.1 17 = .ok (.iconst 3, 1) := by decide +kernel
theorem d_M_exit_18 : decode m_M_exit.2.1 18 = .ok (.if_icmp .ge 9, 3) := by decide +kernel
theorem d_M_exit_21 : decode m_M_exit.2.1 21 = .ok (.iinc 1 (-1), 3) := by decide +kernel
theorem d_M_exit_24 : decode m_M_exit.2.1 24 = .ok (.goto (-17), 3) := by decide +kernel
theorem d_M_exit_27 : decode m_M_exit.2.1 27 = .ok (.iload_n 1, 1) := by decide +kernel
theorem d_M_exit_28 : decode m_M_exit.2.1 28 = .ok (.ifCond .lt 14, 3) := by decide +kernel
theorem d_M_exit_31 : decode m_M_exit.2.1 31 = .ok (.aload_n 0, 1) := by decide +kernel
theorem d_M_exit_32 : decode m_M_exit.2.1 32 = .ok (.getfield 43, 3) := by decide +kernel
theorem d_M_exit_35 : decode m_M_exit.2.1 35 = .ok (.iload_n 1, 1) := by decide +kernel
theorem d_M_exit_36 : decode m_M_exit.2.1 36 = .ok (.iaload, 1) := by decide +kernel
theorem d_M_exit_37 : decode m_M_exit.2.1 37 = .ok (.bipush 7, 2) := by decide +kernel
theorem d_M_exit_39 : decode m_M_exit.2.1 39 = .ok (.if_icmp .ne 6, 3) := by decide +kernel
theorem d_M_exit_42 : decode m_M_exit.2.1 42 = .ok (.bipush 11, 2) := by decide +kernel
theorem d_M_exit_44 : decode m_M_exit.2.1 44 = .ok (.ireturn, 1) := by decide +kernel
theorem d_M_exit_45 : decode m_M_exit.2.1 45 = .ok (.aload_n 0, 1) := by decide +kernel
theorem d_M_exit_46 : decode m_M_exit.2.1 46 = .ok (.getfield 346, 3) := by decide +kernel
theorem d_M_exit_49 : decode m_M_exit.2.1 49 = .ok (.iload_n 1, 1) := by decide +kernel
theorem d_M_exit_50 : decode m_M_exit.2.1 50 = .ok (.if_icmp .le 10, 3) := by decide +kernel
theorem d_M_exit_53 : decode m_M_exit.2.1 53 = .ok (.aload_n 0, 1) := by decide +kernel
theorem d_M_exit_54 : decode m_M_exit.2.1 54 = .ok (.invokevirtual 385, 3) := by decide +kernel
theorem d_M_exit_57 : decode m_M_exit.2.1 57 = .ok (.goto (-12), 3) := by decide +kernel
theorem d_M_exit_60 : decode m_M_exit.2.1 60 = .ok (.iconst 0, 1) := by decide +kernel
theorem d_M_exit_61 : decode m_M_exit.2.1 61 = .ok (.ireturn, 1) := by decide +kernel
theorem d_M_feed_0 : decode m_M_feed.2.1 0 = .ok (.aload_n 0, 1) := by decide +kernel
theorem d_M_feed_1 : decode m_M_feed.2.1 1 = .ok (.iconst 0, 1) := by decide +kernel
theorem d_M_feed_2 : decode m_M_feed.2.1 2 = .ok (.putfield 242, 3) := by decide +kernel
theorem d_M_feed_5 : decode m_M_feed.2.1 5 = .ok (.aload_n 0, 1) := by decide +kernel
theorem d_M_feed_6 : decode m_M_feed.2.1 6 = .ok (.getfield 247, 3) := by decide +kernel
theorem d_M_feed_9 : decode m_M_feed.2.1 9 = .ok (.bipush 40, 2) := by decide +kernel
theorem d_M_feed_11 : decode m_M_feed.2.1 11 = .ok (.if_icmp .eq 19, 3) := by decide +kernel
theorem d_M_feed_14 : decode m_M_feed.2.1 14 = .ok (.dload_n 1, 1) := by decide +kernel
theorem d_M_feed_15 : decode m_M_feed.2.1 15 = .ok (.ldc2_w 260, 3) := by decide +kernel
theorem d_M_feed_18 : decode m_M_feed.2.1 18 = .ok (.dcmp .l, 1) := by decide +kernel
theorem d_M_feed_19 : decode m_M_feed.2.1 19 = .ok (.ifCond .lt 11, 3) := by decide +kernel
theorem d_M_feed_22 : decode m_M_feed.2.1 22 = .ok (.dload_n 1, 1) := by decide +kernel
theorem d_M_feed_23 : decode m_M_feed.2.1 23 = .ok (.ldc2_w 258, 3) := by decide +kernel
theorem d_M_feed_26 : decode m_M_feed.2.1 26 = .ok (.dcmp .g, 1) := by decide +kernel
theorem d_M_feed_27 : decode m_M_feed.2.1 27 = .ok (.ifCond .le 5, 3) := by decide +kernel
theorem d_M_feed_30 : decode m_M_feed.2.1 30 = .ok (.iconst 0, 1) := by decide +kernel
theorem d_M_feed_31 : decode m_M_feed.2.1 31 = .ok (.ireturn, 1) := by decide +kernel
theorem d_M_feed_32 : decode m_M_feed.2.1 32 = .ok (.aload_n 0, 1) := by decide +kernel
theorem d_M_feed_33 : decode m_M_feed.2.1 33 = .ok (.aload_n 0, 1) := by decide +kernel
theorem d_M_feed_34 : decode m_M_feed.2.1 34 = .ok (.getfield 247, 3) := by decide +kernel
theorem d_M_feed_37 : decode m_M_feed.2.1 37 = .ok (.iconst 1, 1) := by decide +kernel
theorem d_M_feed_38 : decode m_M_feed.2.1 38 = .ok (.lconst 0, 1) := by decide +kernel
theorem d_M_feed_39 : decode m_M_feed.2.1 39 = .ok (.invokevirtual 250, 3) := by decide +kernel
theorem d_M_feed_42 : decode m_M_feed.2.1 42 = .ok (.aload_n 0, 1) := by decide +kernel
theorem d_M_feed_43 : decode m_M_feed.2.1 43 = .ok (.getfield 17, 3) := by decide +kernel
theorem d_M_feed_46 : decode m_M_feed.2.1 46 = .ok (.aload_n 0, 1) := by decide +kernel
theorem d_M_feed_47 : decode m_M_feed.2.1 47 = .ok (.getfield 247, 3) := by decide +kernel
theorem d_M_feed_50 : decode m_M_feed.2.1 50 = .ok (.dload_n 1, 1) := by decide +kernel
theorem d_M_feed_51 : decode m_M_feed.2.1 51 = .ok (.dastore, 1) := by decide +kernel
theorem d_M_feed_52 : decode m_M_feed.2.1 52 = .ok (.aload_n 0, 1) := by decide +kernel
theorem d_M_feed_53 : decode m_M_feed.2.1 53 = .ok (.dup, 1) := by decide +kernel
theorem d_M_feed_54 : decode m_M_feed.2.1 54 = .ok (.getfield 247, 3) := by decide +kernel
theorem d_M_feed_57 : decode m_M_feed.2.1 57 = .ok (.iconst 1, 1) := by decide +kernel
theorem d_M_feed_58 : decode m_M_feed.2.1 58 = .ok (.iadd, 1) := by decide +kernel
theorem d_M_feed_59 : decode m_M_feed.2.1 59 = .ok (.putfield 247, 3) := by decide +kernel
theorem d_M_feed_62 : decode m_M_feed.2.1 62 = .ok (.iconst 1, 1) := by decide +kernel
theorem d_M_feed_63 : decode m_M_feed.2.1 63 = .ok (.ireturn, 1) := by decide +kernel
theorem d_M_give_0 : decode m_M_give.2.1 0 = .ok (.aload_n 0, 1) := by decide +kernel
theorem d_M_give_1 : decode m_M_give.2.1 1 = .ok (.dup, 1) := by decide +kernel
theorem d_M_give_2 : decode m_M_give.2.1 2 = .ok (.getfield 247, 3) := by decide +kernel
theorem d_M_give_5 : decode m_M_give.2.1 5 = .ok (.iload_n 1, 1) := by decide +kernel
theorem d_M_give_6 : decode m_M_give.2.1 6 = .ok (.isub, 1) := by decide +kernel
theorem d_M_give_7 : decode m_M_give.2.1 7 = .ok (.putfield 247, 3) := by decide +kernel
theorem d_M_give_10 : decode m_M_give.2.1 10 = .ok (.aload_n 0, 1) := by decide +kernel
theorem d_M_give_11 : decode m_M_give.2.1 11 = .ok (.aload_n 0, 1) := by decide +kernel
theorem d_M_give_12 : decode m_M_give.2.1 12 = .ok (.getfield 247, 3) := by decide +kernel
theorem d_M_give_15 : decode m_M_give.2.1 15 = .ok (.iload_n 2, 1) := by decide +kernel
theorem d_M_give_16 : decode m_M_give.2.1 16 = .ok (.lload_n 3, 1) := by decide +kernel
theorem d_M_give_17 : decode m_M_give.2.1 17 = .ok (.invokevirtual 250, 3) := by decide +kernel
theorem d_M_give_20 : decode m_M_give.2.1 20 = .ok (.aload_n 0, 1) := by decide +kernel
theorem d_M_give_21 : decode m_M_give.2.1 21 = .ok (.dup, 1) := by decide +kernel
theorem d_M_give_22 : decode m_M_give.2.1 22 = .ok (.getfield 247, 3) := by decide +kernel
theorem d_M_give_25 : decode m_M_give.2.1 25 = .ok (.iconst 1, 1) := by decide +kernel
theorem d_M_give_26 : decode m_M_give.2.1 26 = .ok (.iadd, 1) := by decide +kernel
theorem d_M_give_27 : decode m_M_give.2.1 27 = .ok (.putfield 247, 3) := by decide +kernel
theorem d_M_give_30 : decode m_M_give.2.1 30 = .ok (.iconst 0, 1) := by decide +kernel
theorem d_M_give_31 : decode m_M_give.2.1 31 = .ok (.ireturn, 1) := by decide +kernel
theorem d_M_giveReal_0 : decode m_M_giveReal.2.1 0 = .ok (.dload_n 2, 1) := by decide +kernel
theorem d_M_giveReal_1 : decode m_M_giveReal.2.1 1 = .ok (.ldc2_w 258, 3) := by decide +kernel
theorem d_M_giveReal_4 : decode m_M_giveReal.2.1 4 = .ok (.dcmp .l, 1) := by decide +kernel
theorem d_M_giveReal_5 : decode m_M_giveReal.2.1 5 = .ok (.ifCond .gt 11, 3) := by decide +kernel
theorem d_M_giveReal_8 : decode m_M_giveReal.2.1 8 = .ok (.dload_n 2, 1) := by decide +kernel
theorem d_M_giveReal_9 : decode m_M_giveReal.2.1 9 = .ok (.ldc2_w 260, 3) := by decide +kernel
theorem d_M_giveReal_12 : decode m_M_giveReal.2.1 12 = .ok (.dcmp .g, 1) := by decide +kernel
theorem d_M_giveReal_13 : decode m_M_giveReal.2.1 13 = .ok (.ifCond .ge 5, 3) := by decide +kernel
theorem d_M_giveReal_16 : decode m_M_giveReal.2.1 16 = .ok (.iconst 4, 1) := by decide +kernel
theorem d_M_giveReal_17 : decode m_M_giveReal.2.1 17 = .ok (.ireturn, 1) := by decide +kernel
theorem d_M_giveReal_18 : decode m_M_giveReal.2.1 18 = .ok (.aload_n 0, 1) := by decide +kernel
theorem d_M_giveReal_19 : decode m_M_giveReal.2.1 19 = .ok (.dup, 1) := by decide +kernel
theorem d_M_giveReal_20 : decode m_M_giveReal.2.1 20 = .ok (.getfield 247, 3) := by decide +kernel
theorem d_M_giveReal_23 : decode m_M_giveReal.2.1 23 = .ok (.iload_n 1, 1) := by decide +kernel
theorem d_M_giveReal_24 : decode m_M_giveReal.2.1 24 = .ok (.isub, 1) := by decide +kernel
theorem d_M_giveReal_25 : decode m_M_giveReal.2.1 25 = .ok (.putfield 247, 3) := by decide +kernel
theorem d_M_giveReal_28 : decode m_M_giveReal.2.1 28 = .ok (.aload_n 0, 1) := by decide +kernel
theorem d_M_giveReal_29 : decode m_M_giveReal.2.1 29 = .ok (.aload_n 0, 1) := by decide +kernel
theorem d_M_giveReal_30 : decode m_M_giveReal.2.1 30 = .ok (.getfield 247, 3) := by decide +kernel
theorem d_M_giveReal_33 : decode m_M_giveReal.2.1 33 = .ok (.iconst 1, 1) := by decide +kernel
theorem d_M_giveReal_34 : decode m_M_giveReal.2.1 34 = .ok (.lconst 0, 1) := by decide +kernel
theorem d_M_giveReal_35 : decode m_M_giveReal.2.1 35 = .ok (.invokevirtual 250, 3) := by decide +kernel
theorem d_M_giveReal_38 : decode m_M_giveReal.2.1 38 = .ok (.aload_n 0, 1) := by decide +kernel
theorem d_M_giveReal_39 : decode m_M_giveReal.2.1 39 = .ok (.getfield 17, 3) := by decide +kernel
theorem d_M_giveReal_42 : decode m_M_giveReal.2.1 42 = .ok (.aload_n 0, 1) := by decide +kernel
theorem d_M_giveReal_43 : decode m_M_giveReal.2.1 43 = .ok (.getfield 247, 3) := by decide +kernel
theorem d_M_giveReal_46 : decode m_M_giveReal.2.1 46 = .ok (.dload_n 2, 1) := by decide +kernel
theorem d_M_giveReal_47 : decode m_M_giveReal.2.1 47 = .ok (.dastore, 1) := by decide +kernel
theorem d_M_giveReal_48 : decode m_M_giveReal.2.1 48 = .ok (.aload_n 0, 1) := by decide +kernel
theorem d_M_giveReal_49 : decode m_M_giveReal.2.1 49 = .ok (.dup, 1) := by decide +kernel
theorem d_M_giveReal_50 : decode m_M_giveReal.2.1 50 = .ok (.getfield 247, 3) := by decide +kernel
theorem d_M_giveReal_53 : decode m_M_giveReal.2.1 53 = .ok (.iconst 1, 1) := by decide +kernel
theorem d_M_giveReal_54 : decode m_M_giveReal.2.1 54 = .ok (.iadd, 1) := by decide +kernel
theorem d_M_giveReal_55 : decode m_M_giveReal.2.1 55 = .ok (.putfield 247, 3) := by decide +kernel
theorem d_M_giveReal_58 : decode m_M_giveReal.2.1 58 = .ok (.iconst 0, 1) := by decide +kernel
theorem d_M_giveReal_59 : decode m_M_giveReal.2.1 59 = .ok (.ireturn, 1) := by decide +kernel
theorem d_M_isNewer_0 : decode m_M_isNewer.2.1 0 = .ok (.iload_n 1, 1) := by decide +kernel
theorem d_M_isNewer_1 : decode m_M_isNewer.2.1 1 = .ok (.iconst 5, 1) := by decide +kernel
theorem d_M_isNewer_2 : decode m_M_isNewer.2.1 2 = .ok (.if_icmp .ne 35, 3) := by decide +kernel
theorem d_M_isNewer_5 : decode m_M_isNewer.2.1 5 = .ok (.lload_n 2, 1) := by decide +kernel
theorem d_M_isNewer_6 : decode m_M_isNewer.2.1 6 = .ok (.invokestatic 391, 3) := by decide +kernel
theorem d_M_isNewer_9 : decode m_M_isNewer.2.1 9 = .ok (.ifCond .le 26, 3) := by decide +kernel
theorem d_M_isNewer_12 : decode m_M_isNewer.2.1 12 = .ok (.lload_n 2, 1) := by decide +kernel
theorem d_M_isNewer_13 : decode m_M_isNewer.2.1 13 = .ok (.invokestatic 394, 3) := by decide +kernel
theorem d_M_isNewer_16 : decode m_M_isNewer.2.1 16 = .ok (.lload_n 2, 1) := by decide +kernel
theorem d_M_isNewer_17 : decode m_M_isNewer.2.1 17 = .ok (.invokestatic 391, 3) := by decide +kernel
theorem d_M_isNewer_20 : decode m_M_isNewer.2.1 20 = .ok (.iadd, 1) := by decide +kernel
theorem d_M_isNewer_21 : decode m_M_isNewer.2.1 21 = .ok (.aload_n 0, 1) := by decide +kernel
theorem d_M_isNewer_22 : decode m_M_isNewer.2.1 22 = .ok (.getfield 40, 3) := by decide +kernel
theorem d_M_isNewer_25 : decode m_M_isNewer.2.1 25 = .ok (.iload 4, 2) := by decide +kernel
theorem d_M_isNewer_27 : decode m_M_isNewer.2.1 27 = .ok (.iaload, 1) := by decide +kernel
theorem d_M_isNewer_28 : decode m_M_isNewer.2.1 28 = .ok (.if_icmp .le 7, 3) := by decide +kernel
theorem d_M_isNewer_31 : decode m_M_isNewer.2.1 31 = .ok (.iconst 1, 1) := by decide +kernel
theorem d_M_isNewer_32 : decode m_M_isNewer.2.1 32 = .ok (.goto 4, 3) := by decide +kernel
theorem d_M_isNewer_35 : decode m_M_isNewer.2.1 35 = .ok (.iconst 0, 1) := by decide +kernel
theorem d_M_isNewer_36 : decode m_M_isNewer.2.1 36 = .ok (.ireturn, 1) := by decide +kernel
theorem d_M_isNewer_37 : decode m_M_isNewer.2.1 37 = .ok (.iload_n 1, 1) := by decide +kernel
theorem d_M_isNewer_38 : decode m_M_isNewer.2.1 38 = .ok (.bipush 6, 2) := by decide +kernel
theorem d_M_isNewer_40 : decode m_M_isNewer.2.1 40 = .ok (.if_icmp .ne 21, 3) := by decide +kernel
theorem d_M_isNewer_43 : decode m_M_isNewer.2.1 43 = .ok (.aload_n 0, 1) := by decide +kernel
theorem d_M_isNewer_44 : decode m_M_isNewer.2.1 44 = .ok (.getfield 27, 3) := by decide +kernel
theorem d_M_isNewer_47 : decode m_M_isNewer.2.1 47 = .ok (.bipush 7, 2) := by decide +kernel
theorem d_M_isNewer_49 : decode m_M_isNewer.2.1 49 = .ok (.iload 4, 2) := by decide +kernel
theorem d_M_isNewer_51 : decode m_M_isNewer.2.1 51 = .ok (.iconst 1, 1) := by decide +kernel
theorem d_M_isNewer_52 : decode m_M_isNewer.2.1 52 = .ok (.iadd, 1) := by decide +kernel
theorem d_M_isNewer_53 : decode m_M_isNewer.2.1 53 = .ok (.imul, 1) := by decide +kernel
theorem d_M_isNewer_54 : decode m_M_isNewer.2.1 54 = .ok (.lload_n 2, 1) := by decide +kernel
theorem d_M_isNewer_55 : decode m_M_isNewer.2.1 55 = .ok (.l2i, 1) := by decide +kernel
theorem d_M_isNewer_56 : decode m_M_isNewer.2.1 56 = .ok (.iadd, 1) := by decide +kernel
theorem d_M_isNewer_57 : decode m_M_isNewer.2.1 57 = .ok (.iaload, 1) := by decide +kernel
theorem d_M_isNewer_58 : decode m_M_isNewer.2.1 58 = .ok (.ifCond .eq 22, 3) := by decide +kernel
theorem d_M_isNewer_61 : decode m_M_isNewer.2.1 61 = .ok (.iload_n 1, 1) := by decide +kernel
theorem d_M_isNewer_62 : decode m_M_isNewer.2.1 62 = .ok (.bipush 7, 2) := by decide +kernel
theorem d_M_isNewer_64 : decode m_M_isNewer.2.1 64 = .ok (.if_icmp .ne 20, 3) := by decide +kernel
theorem d_M_isNewer_67 : decode m_M_isNewer.2.1 67 = .ok (.lload_n 2, 1) := by decide +kernel
theorem d_M_isNewer_68 : decode m_M_isNewer.2.1 68 = .ok (.aload_n 0, 1) := by decide +kernel
theorem d_M_isNewer_69 : decode m_M_isNewer.2.1 69 = .ok (.getfield 37, 3) := by decide +kernel
theorem d_M_isNewer_72 : decode m_M_isNewer.2.1 72 = .ok (.iload 4, 2) := by decide +kernel
theorem d_M_isNewer_74 : decode m_M_isNewer.2.1 74 = .ok (.iaload, 1) := by decide +kernel
theorem d_M_isNewer_75 : decode m_M_isNewer.2.1 75 = .ok (.i2l, 1) := by decide +kernel
theorem d_M_isNewer_76 : decode m_M_isNewer.2.1 76 = .ok (.lcmp, 1) := by decide +kernel
theorem d_M_isNewer_77 : decode m_M_isNewer.2.1 77 = .ok (.ifCond .le 7, 3) := by decide +kernel
theorem d_M_isNewer_80 : decode m_M_isNewer.2.1 80 = .ok (.iconst 1, 1) := by decide +kernel
theorem d_M_isNewer_81 : decode m_M_isNewer.2.1 81 = .ok (.goto 4, 3) := by decide +kernel
theorem d_M_isNewer_84 : decode m_M_isNewer.2.1 84 = .ok (.iconst 0, 1) := by decide +kernel
theorem d_M_isNewer_85 : decode m_M_isNewer.2.1 85 = .ok (.ireturn, 1) := by decide +kernel
theorem d_M_letter_0 : decode m_M_letter.2.1 0 = .ok (.aload_n 0, 1) := by decide +kernel
theorem d_M_letter_1 : decode m_M_letter.2.1 1 = .ok (.iconst 0, 1) := by decide +kernel
theorem d_M_letter_2 : decode m_M_letter.2.1 2 = .ok (.putfield 242, 3) := by decide +kernel
theorem d_M_letter_5 : decode m_M_letter.2.1 5 = .ok (.iload_n 1, 1) := by decide +kernel
theorem d_M_letter_6 : decode m_M_letter.2.1 6 = .ok (.ifCond .lt 31, 3) := by decide +kernel
theorem d_M_letter_9 : decode m_M_letter.2.1 9 = .ok (.iload_n 1, 1) := by decide +kernel
theorem d_M_letter_10 : decode m_M_letter.2.1 10 = .ok (.aload_n 0, 1) := by decide +kernel
theorem d_M_letter_11 : decode m_M_letter.2.1 11 = .ok (.getfield 247, 3) := by decide +kernel
theorem d_M_letter_14 : decode m_M_letter.2.1 14 = .ok (.if_icmp .ge 23, 3) := by decide +kernel
theorem d_M_letter_17 : decode m_M_letter.2.1 17 = .ok (.aload_n 0, 1) := by decide +kernel
theorem d_M_letter_18 : decode m_M_letter.2.1 18 = .ok (.aload_n 0, 1) := by decide +kernel
theorem d_M_letter_19 : decode m_M_letter.2.1 19 = .ok (.getfield 247, 3) := by decide +kernel
theorem d_M_letter_22 : decode m_M_letter.2.1 22 = .ok (.iconst 1, 1) := by decide +kernel
theorem d_M_letter_23 : decode m_M_letter.2.1 23 = .ok (.isub, 1) := by decide +kernel
theorem d_M_letter_24 : decode m_M_letter.2.1 24 = .ok (.iload_n 1, 1) := by decide +kernel
theorem d_M_letter_25 : decode m_M_letter.2.1 25 = .ok (.isub, 1) := by decide +kernel
theorem d_M_letter_26 : decode m_M_letter.2.1 26 = .ok (.invokevirtual 421, 3) := by decide +kernel
theorem d_M_letter_29 : decode m_M_letter.2.1 29 = .ok (.iconst 3, 1) := by decide +kernel
theorem d_M_letter_30 : decode m_M_letter.2.1 30 = .ok (.if_icmp .ne 7, 3) := by decide +kernel
theorem d_M_letter_33 : decode m_M_letter.2.1 33 = .ok (.iload_n 2, 1) := by decide +kernel
theorem d_M_letter_34 : decode m_M_letter.2.1 34 = .ok (.ifCond .ge 5, 3) := by decide +kernel
theorem d_M_letter_37 : decode m_M_letter.2.1 37 = .ok (.iconst (-1), 1) := by decide +kernel
theorem d_M_letter_38 : decode m_M_letter.2.1 38 = .ok (.ireturn, 1) := by decide +kernel
theorem d_M_letter_39 : decode m_M_letter.2.1 39 = .ok (.aload_n 0, 1) := by decide +kernel
theorem d_M_letter_40 : decode m_M_letter.2.1 40 = .ok (.getfield 13, 3) := by decide +kernel
theorem d_M_letter_43 : decode m_M_letter.2.1 43 = .ok (.aload_n 0, 1) := by decide +kernel
theorem d_M_letter_44 : decode m_M_letter.2.1 44 = .ok (.getfield 247, 3) := by decide +kernel
theorem d_M_letter_47 : decode m_M_letter.2.1 47 = .ok (.iconst 1, 1) := by decide +kernel
theorem d_M_letter_48 : decode m_M_letter.2.1 48 = .ok (.isub, 1) := by decide +kernel
theorem d_M_letter_49 : decode m_M_letter.2.1 49 = .ok (.iload_n 1, 1) := by decide +kernel
theorem d_M_letter_50 : decode m_M_letter.2.1 50 = .ok (.isub, 1) := by decide +kernel
theorem d_M_letter_51 : decode m_M_letter.2.1 51 = .ok (.laload, 1) := by decide +kernel
theorem d_M_letter_52 : decode m_M_letter.2.1 52 = .ok (.lstore_n 3, 1) := by decide +kernel
theorem d_M_letter_53 : decode m_M_letter.2.1 53 = .ok (.iload_n 2, 1) := by decide +kernel
theorem d_M_letter_54 : decode m_M_letter.2.1 54 = .ok (.lload_n 3, 1) := by decide +kernel
theorem d_M_letter_55 : decode m_M_letter.2.1 55 = .ok (.invokestatic 566, 3) := by decide +kernel
theorem d_M_letter_58 : decode m_M_letter.2.1 58 = .ok (.if_icmp .lt 5, 3) := by decide +kernel
theorem d_M_letter_61 : decode m_M_letter.2.1 61 = .ok (.iconst (-1), 1) := by decide +kernel
theorem d_M_letter_62 : decode m_M_letter.2.1 62 = .ok (.ireturn, 1) := by decide +kernel
theorem d_M_letter_63 : decode m_M_letter.2.1 63 = .ok (.lload_n 3, 1) := by decide +kernel
theorem d_M_letter_64 : decode m_M_letter.2.1 64 = .ok (.iconst 5, 1) := by decide +kernel
theorem d_M_letter_65 : decode m_M_letter.2.1 65 = .ok (.iload_n 2, 1) := by decide +kernel
theorem d_M_letter_66 : decode m_M_letter.2.1 66 = .ok (.imul, 1) := by decide +kernel
theorem d_M_letter_67 : decode m_M_letter.2.1 67 = .ok (.lshr, 1) := by decide +kernel
theorem d_M_letter_68 : decode m_M_letter.2.1 68 = .ok (.ldc2_w 493, 3) := by decide +kernel
theorem d_M_letter_71 : decode m_M_letter.2.1 71 = .ok (.land, 1) := by decide +kernel
theorem d_M_letter_72 : decode m_M_letter.2.1 72 = .ok (.l2i, 1) := by decide +kernel
theorem d_M_letter_73 : decode m_M_letter.2.1 73 = .ok (.istore 5, 2) := by decide +kernel
theorem d_M_letter_75 : decode m_M_letter.2.1 75 = .ok (.iload 5, 2) := by decide +kernel
theorem d_M_letter_77 : decode m_M_letter.2.1 77 = .ok (.bipush 27, 2) := by decide +kernel
theorem d_M_letter_79 : decode m_M_letter.2.1 79 = .ok (.if_icmp .ne 8, 3) := by decide +kernel
theorem d_M_letter_82 : decode m_M_letter.2.1 82 = .ok (.bipush 91, 2) := by decide +kernel
theorem d_M_letter_84 : decode m_M_letter.2.1 84 = .ok (.goto 20, 3) := by decide +kernel
theorem d_M_letter_87 : decode m_M_letter.2.1 87 = .ok (.iload 5, 2) := by decide +kernel
theorem d_M_letter_89 : decode m_M_letter.2.1 89 = .ok (.bipush 28, 2) := by decide +kernel
theorem d_M_letter_91 : decode m_M_letter.2.1 91 = .ok (.if_icmp .ne 8, 3) := by decide +kernel
theorem d_M_letter_94 : decode m_M_letter.2.1 94 = .ok (.bipush 93, 2) := by decide +kernel
theorem d_M_letter_96 : decode m_M_letter.2.1 96 = .ok (.goto 8, 3) := by decide +kernel
theorem d_M_letter_99 : decode m_M_letter.2.1 99 = .ok (.bipush 96, 2) := by decide +kernel
theorem d_M_letter_101 : decode m_M_letter.2.1 101 = .ok (.iload 5, 2) := by decide +kernel
theorem d_M_letter_103 : decode m_M_letter.2.1 103 = .ok (.iadd, 1) := by decide +kernel
theorem d_M_letter_104 : decode m_M_letter.2.1 104 = .ok (.ireturn, 1) := by decide +kernel
theorem d_M_load_0 : decode m_M_load.2.1 0 = .ok (.lload_n 1, 1) := by decide +kernel
theorem d_M_load_1 : decode m_M_load.2.1 1 = .ok (.invokestatic 391, 3) := by decide +kernel
theorem d_M_load_4 : decode m_M_load.2.1 4 = .ok (.istore_n 3, 1) := by decide +kernel
theorem d_M_load_5 : decode m_M_load.2.1 5 = .ok (.aload_n 0, 1) := by decide +kernel
theorem d_M_load_6 : decode m_M_load.2.1 6 = .ok (.getfield 247, 3) := by decide +kernel
theorem d_M_load_9 : decode m_M_load.2.1 9 = .ok (.iconst 1, 1) := by decide +kernel
theorem d_M_load_10 : decode m_M_load.2.1 10 = .ok (.isub, 1) := by decide +kernel
theorem d_M_load_11 : decode m_M_load.2.1 11 = .ok (.istore 4, 2) := by decide +kernel
theorem d_M_load_13 : decode m_M_load.2.1 13 = .ok (.aload_n 0, 1) := by decide +kernel
theorem d_M_load_14 : decode m_M_load.2.1 14 = .ok (.getfield 247, 3) := by decide +kernel
theorem d_M_load_17 : decode m_M_load.2.1 17 = .ok (.iload_n 3, 1) := by decide +kernel
theorem d_M_load_18 : decode m_M_load.2.1 18 = .ok (.iadd, 1) := by decide +kernel
theorem d_M_load_19 : decode m_M_load.2.1 19 = .ok (.bipush 40, 2) := by decide +kernel
theorem d_M_load_21 : decode m_M_load.2.1 21 = .ok (.if_icmp .le 5, 3) := by decide +kernel
theorem d_M_load_24 : decode m_M_load.2.1 24 = .ok (.iconst 2, 1) := by decide +kernel
theorem d_M_load_25 : decode m_M_load.2.1 25 = .ok (.ireturn, 1) := by decide +kernel
theorem d_M_load_26 : decode m_M_load.2.1 26 = .ok (.aload_n 0, 1) := by decide +kernel
theorem d_M_load_27 : decode m_M_load.2.1 27 = .ok (.iload 4, 2) := by decide +kernel
theorem d_M_load_29 : decode m_M_load.2.1 29 = .ok (.iload_n 3, 1) := by decide +kernel
theorem d_M_load_30 : decode m_M_load.2.1 30 = .ok (.iadd, 1) := by decide +kernel
theorem d_M_load_31 : decode m_M_load.2.1 31 = .ok (.iload 4, 2) := by decide +kernel
theorem d_M_load_33 : decode m_M_load.2.1 33 = .ok (.invokevirtual 254, 3) := by decide +kernel
theorem d_M_load_36 : decode m_M_load.2.1 36 = .ok (.iconst 0, 1) := by decide +kernel
theorem d_M_load_37 : decode m_M_load.2.1 37 = .ok (.istore 5, 2) := by decide +kernel
theorem d_M_load_39 : decode m_M_load.2.1 39 = .ok (.iload 5, 2) := by decide +kernel
theorem d_M_load_41 : decode m_M_load.2.1 41 = .ok (.iload_n 3, 1) := by decide +kernel
theorem d_M_load_42 : decode m_M_load.2.1 42 = .ok (.if_icmp .ge 28, 3) := by decide +kernel
theorem d_M_load_45 : decode m_M_load.2.1 45 = .ok (.aload_n 0, 1) := by decide +kernel
theorem d_M_load_46 : decode m_M_load.2.1 46 = .ok (.iload 4, 2) := by decide +kernel
theorem d_M_load_48 : decode m_M_load.2.1 48 = .ok (.iload 5, 2) := by decide +kernel
theorem d_M_load_50 : decode m_M_load.2.1 50 = .ok (.iadd, 1) := by decide +kernel
theorem d_M_load_51 : decode m_M_load.2.1 51 = .ok (.bipush 50, 2) := by decide +kernel
theorem d_M_load_53 : decode m_M_load.2.1 53 = .ok (.lload_n 1, 1) := by decide +kernel
theorem d_M_load_54 : decode m_M_load.2.1 54 = .ok (.invokestatic 394, 3) := by decide +kernel
theorem d_M_load_57 : decode m_M_load.2.1 57 = .ok (.iadd, 1) := by decide +kernel
theorem d_M_load_58 : decode m_M_load.2.1 58 = .ok (.iload 5, 2) := by decide +kernel
theorem d_M_load_60 : decode m_M_load.2.1 60 = .ok (.iadd, 1) := by decide +kernel
theorem d_M_load_61 : decode m_M_load.2.1 61 = .ok (.invokevirtual 254, 3) := by decide +kernel
theorem d_M_load_64 : decode m_M_load.2.1 64 = .ok (.iinc 5 1, 3) := by decide +kernel
theorem d_M_load_67 : decode m_M_load.2.1 67 = .ok (.goto (-28), 3) := by decide +kernel
theorem d_M_load_70 : decode m_M_load.2.1 70 = .ok (.aload_n 0, 1) := by decide +kernel
theorem d_M_load_71 : decode m_M_load.2.1 71 = .ok (.dup, 1) := by decide +kernel
theorem d_M_load_72 : decode m_M_load.2.1 72 = .ok (.getfield 247, 3) := by decide +kernel
theorem d_M_load_75 : decode m_M_load.2.1 75 = .ok (.iload_n 3, 1) := by decide +kernel
theorem d_M_load_76 : decode m_M_load.2.1 76 = .ok (.iadd, 1) := by decide +kernel
theorem d_M_load_77 : decode m_M_load.2.1 77 = .ok (.putfield 247, 3) := by decide +kernel
theorem d_M_load_80 : decode m_M_load.2.1 80 = .ok (.iconst 0, 1) := by decide +kernel
theorem d_M_load_81 : decode m_M_load.2.1 81 = .ok (.ireturn, 1) := by decide +kernel
theorem d_M_newArray_0 : decode m_M_newArray.2.1 0 = .ok (.aload_n 0, 1) := by decide +kernel
theorem d_M_newArray_1 : decode m_M_newArray.2.1 1 = .ok (.getfield 325, 3) := by decide +kernel
theorem d_M_newArray_4 : decode m_M_newArray.2.1 4 = .ok (.iload_n 2, 1) := by decide +kernel
theorem d_M_newArray_5 : decode m_M_newArray.2.1 5 = .ok (.iadd, 1) := by decide +kernel
theorem d_M_newArray_6 : decode m_M_newArray.2.1 6 = .ok (.sipush 160, 3) := by decide +kernel
theorem d_M_newArray_9 : decode m_M_newArray.2.1 9 = .ok (.if_icmp .le 6, 3) := by decide +kernel
theorem d_M_newArray_12 : decode m_M_newArray.2.1 12 = .ok (.bipush 7, 2) := by decide +kernel
theorem d_M_newArray_14 : decode m_M_newArray.2.1 14 = .ok (.ireturn, 1) := by decide +kernel
theorem d_M_newArray_15 : decode m_M_newArray.2.1 15 = .ok (.iconst 0, 1) := by decide +kernel
theorem d_M_newArray_16 : decode m_M_newArray.2.1 16 = .ok (.istore 4, 2) := by decide +kernel
theorem d_M_newArray_18 : decode m_M_newArray.2.1 18 = .ok (.iload 4, 2) := by decide +kernel
theorem d_M_newArray_20 : decode m_M_newArray.2.1 20 = .ok (.iload_n 2, 1) := by decide +kernel
theorem d_M_newArray_21 : decode m_M_newArray.2.1 21 = .ok (.if_icmp .ge 27, 3) := by decide +kernel
theorem d_M_newArray_24 : decode m_M_newArray.2.1 24 = .ok (.aload_n 0, 1) := by decide +kernel
theorem d_M_newArray_25 : decode m_M_newArray.2.1 25 = .ok (.bipush 50, 2) := by decide +kernel
theorem d_M_newArray_27 : decode m_M_newArray.2.1 27 = .ok (.aload_n 0, 1) := by decide +kernel
theorem d_M_newArray_28 : decode m_M_newArray.2.1 28 = .ok (.getfield 325, 3) := by decide +kernel
theorem d_M_newArray_31 : decode m_M_newArray.2.1 31 = .ok (.iadd, 1) := by decide +kernel
theorem d_M_newArray_32 : decode m_M_newArray.2.1 32 = .ok (.iload 4, 2) := by decide +kernel
theorem d_M_newArray_34 : decode m_M_newArray.2.1 34 = .ok (.iadd, 1) := by decide +kernel
theorem d_M_newArray_35 : decode m_M_newArray.2.1 35 = .ok (.iload_n 1, 1) := by decide +kernel
theorem d_M_newArray_36 : decode m_M_newArray.2.1 36 = .ok (.iload 4, 2) := by decide +kernel
theorem d_M_newArray_38 : decode m_M_newArray.2.1 38 = .ok (.iadd, 1) := by decide +kernel
theorem d_M_newArray_39 : decode m_M_newArray.2.1 39 = .ok (.invokevirtual 254, 3) := by decide +kernel
theorem d_M_newArray_42 : decode m_M_newArray.2.1 42 = .ok (.iinc 4 1, 3) := by decide +kernel
theorem d_M_newArray_45 : decode m_M_newArray.2.1 45 = .ok (.goto (-27), 3) := by decide +kernel
theorem d_M_newArray_48 : decode m_M_newArray.2.1 48 = .ok (.aload_n 0, 1) := by decide +kernel
theorem d_M_newArray_49 : decode m_M_newArray.2.1 49 = .ok (.bipush 40, 2) := by decide +kernel
theorem d_M_newArray_51 : decode m_M_newArray.2.1 51 = .ok (.iload_n 3, 1) := by decide +kernel
theorem d_M_newArray_52 : decode m_M_newArray.2.1 52 = .ok (.aload_n 0, 1) := by decide +kernel
theorem d_M_newArray_53 : decode m_M_newArray.2.1 53 = .ok (.getfield 325, 3) := by decide +kernel
theorem d_M_newArray_56 : decode m_M_newArray.2.1 56 = .ok (.i2l, 1) := by decide +kernel
theorem d_M_newArray_57 : decode m_M_newArray.2.1 57 = .ok (.ldc2_w 328, 3) := by decide +kernel
theorem d_M_newArray_60 : decode m_M_newArray.2.1 60 = .ok (.iload_n 2, 1) := by decide +kernel
theorem d_M_newArray_61 : decode m_M_newArray.2.1 61 = .ok (.i2l, 1) := by decide +kernel
theorem d_M_newArray_62 : decode m_M_newArray.2.1 62 = .ok (.lmul, 1) := by decide +kernel
theorem d_M_newArray_63 : decode m_M_newArray.2.1 63 = .ok (.ladd, 1) := by decide +kernel
theorem d_M_newArray_64 : decode m_M_newArray.2.1 64 = .ok (.invokevirtual 250, 3) := by decide +kernel
theorem d_M_newArray_67 : decode m_M_newArray.2.1 67 = .ok (.aload_n 0, 1) := by decide +kernel
theorem d_M_newArray_68 : decode m_M_newArray.2.1 68 = .ok (.dup, 1) := by decide +kernel
theorem d_M_newArray_69 : decode m_M_newArray.2.1 69 = .ok (.getfield 325, 3) := by decide +kernel
theorem d_M_newArray_72 : decode m_M_newArray.2.1 72 = .ok (.iload_n 2, 1) := by decide +kernel
theorem d_M_newArray_73 : decode m_M_newArray.2.1 73 = .ok (.iadd, 1) := by decide +kernel
theorem d_M_newArray_74 : decode m_M_newArray.2.1 74 = .ok (.putfield 325, 3) := by decide +kernel
theorem d_M_newArray_77 : decode m_M_newArray.2.1 77 = .ok (.iconst 0, 1) := by decide +kernel
theorem d_M_newArray_78 : decode m_M_newArray.2.1 78 = .ok (.ireturn, 1) := by decide +kernel
theorem d_M_number_0 : decode m_M_number.2.1 0 = .ok (.aload_n 0, 1) := by decide +kernel
theorem d_M_number_1 : decode m_M_number.2.1 1 = .ok (.iload_n 1, 1) := by decide +kernel
theorem d_M_number_2 : decode m_M_number.2.1 2 = .ok (.ifCond .lt 11, 3) := by decide +kernel
theorem d_M_number_5 : decode m_M_number.2.1 5 = .ok (.iload_n 1, 1) := by decide +kernel
theorem d_M_number_6 : decode m_M_number.2.1 6 = .ok (.aload_n 0, 1) := by decide +kernel
theorem d_M_number_7 : decode m_M_number.2.1 7 = .ok (.getfield 247, 3) := by decide +kernel
theorem d_M_number_10 : decode m_M_number.2.1 10 = .ok (.if_icmp .lt 7, 3) := by decide +kernel
theorem d_M_number_13 : decode m_M_number.2.1 13 = .ok (.iconst 1, 1) := by decide +kernel
theorem d_M_number_14 : decode m_M_number.2.1 14 = .ok (.goto 25, 3) := by decide +kernel
theorem d_M_number_17 : decode m_M_number.2.1 17 = .ok (.aload_n 0, 1) := by decide +kernel
theorem d_M_number_18 : decode m_M_number.2.1 18 = .ok (.getfield 7, 3) := by decide +kernel
theorem d_M_number_21 : decode m_M_number.2.1 21 = .ok (.aload_n 0, 1) := by decide +kernel
theorem d_M_number_22 : decode m_M_number.2.1 22 = .ok (.getfield 247, 3) := by decide +kernel
theorem d_M_number_25 : decode m_M_number.2.1 25 = .ok (.iconst 1, 1) := by decide +kernel
theorem d_M_number_26 : decode m_M_number.2.1 26 = .ok (.isub, 1) := by decide +kernel
theorem d_M_number_27 : decode m_M_number.2.1 27 = .ok (.iload_n 1, 1) := by decide +kernel
theorem d_M_number_28 : decode m_M_number.2.1 28 = .ok (.isub, 1) := by decide +kernel
theorem d_M_number_29 : decode m_M_number.2.1 29 = .ok (.iaload, 1) := by decide +kernel
theorem d_M_number_30 : decode m_M_number.2.1 30 = .ok (.iconst 1, 1) := by decide +kernel
theorem d_M_number_31 : decode m_M_number.2.1 31 = .ok (.if_icmp .ne 7, 3) := by decide +kernel
theorem d_M_number_34 : decode m_M_number.2.1 34 = .ok (.iconst 2, 1) := by decide +kernel
theorem d_M_number_35 : decode m_M_number.2.1 35 = .ok (.goto 4, 3) := by decide +kernel
theorem d_M_number_38 : decode m_M_number.2.1 38 = .ok (.iconst 0, 1) := by decide +kernel
theorem d_M_number_39 : decode m_M_number.2.1 39 = .ok (.putfield 242, 3) := by decide +kernel
theorem d_M_number_42 : decode m_M_number.2.1 42 = .ok (.aload_n 0, 1) := by decide +kernel
theorem d_M_number_43 : decode m_M_number.2.1 43 = .ok (.getfield 242, 3) := by decide +kernel
theorem d_M_number_46 : decode m_M_number.2.1 46 = .ok (.ifCond .le 5, 3) := by decide +kernel
theorem d_M_number_49 : decode m_M_number.2.1 49 = .ok (.iconst 0, 1) := by decide +kernel
theorem d_M_number_50 : decode m_M_number.2.1 50 = .ok (.ireturn, 1) := by decide +kernel
theorem d_M_number_51 : decode m_M_number.2.1 51 = .ok (.aload_n 0, 1) := by decide +kernel
theorem d_M_number_52 : decode m_M_number.2.1 52 = .ok (.getfield 247, 3) := by decide +kernel
theorem d_M_number_55 : decode m_M_number.2.1 55 = .ok (.iconst 1, 1) := by decide +kernel
theorem d_M_number_56 : decode m_M_number.2.1 56 = .ok (.isub, 1) := by decide +kernel
theorem d_M_number_57 : decode m_M_number.2.1 57 = .ok (.iload_n 1, 1) := by decide +kernel
theorem d_M_number_58 : decode m_M_number.2.1 58 = .ok (.isub, 1) := by decide +kernel
theorem d_M_number_59 : decode m_M_number.2.1 59 = .ok (.istore_n 2, 1) := by decide +kernel
theorem d_M_number_60 : decode m_M_number.2.1 60 = .ok (.aload_n 0, 1) := by decide +kernel
theorem d_M_number_61 : decode m_M_number.2.1 61 = .ok (.iload_n 2, 1) := by decide +kernel
theorem d_M_number_62 : decode m_M_number.2.1 62 = .ok (.invokevirtual 421, 3) := by decide +kernel
theorem d_M_number_65 : decode m_M_number.2.1 65 = .ok (.iconst 3, 1) := by decide +kernel
theorem d_M_number_66 : decode m_M_number.2.1 66 = .ok (.if_icmp .ne 15, 3) := by decide +kernel
theorem d_M_number_69 : decode m_M_number.2.1 69 = .ok (.aload_n 0, 1) := by decide +kernel
theorem d_M_number_70 : decode m_M_number.2.1 70 = .ok (.getfield 13, 3) := by decide +kernel
theorem d_M_number_73 : decode m_M_number.2.1 73 = .ok (.iload_n 2, 1) := by decide +kernel
theorem d_M_number_74 : decode m_M_number.2.1 74 = .ok (.laload, 1) := by decide +kernel
theorem d_M_number_75 : decode m_M_number.2.1 75 = .ok (.invokestatic 566, 3) := by decide +kernel
theorem d_M_number_78 : decode m_M_number.2.1 78 = .ok (.goto 31, 3) := by decide +kernel
theorem d_M_number_81 : decode m_M_number.2.1 81 = .ok (.aload_n 0, 1) := by decide +kernel
theorem d_M_number_82 : decode m_M_number.2.1 82 = .ok (.iload_n 2, 1) := by decide +kernel
theorem d_M_number_83 : decode m_M_number.2.1 83 = .ok (.invokevirtual 421, 3) := by decide +kernel
theorem d_M_number_86 : decode m_M_number.2.1 86 = .ok (.iconst 5, 1) := by decide +kernel
theorem d_M_number_87 : decode m_M_number.2.1 87 = .ok (.if_icmp .ne 15, 3) := by decide +kernel
theorem d_M_number_90 : decode m_M_number.2.1 90 = .ok (.aload_n 0, 1) := by decide +kernel
theorem d_M_number_91 : decode m_M_number.2.1 91 = .ok (.getfield 13, 3) := by decide +kernel
theorem d_M_number_94 : decode m_M_number.2.1 94 = .ok (.iload_n 2, 1) := by decide +kernel
theorem d_M_number_95 : decode m_M_number.2.1 95 = .ok (.laload, 1) := by decide +kernel
theorem d_M_number_96 : decode m_M_number.2.1 96 = .ok (.invokestatic 391, 3) := by decide +kernel
theorem d_M_number_99 : decode m_M_number.2.1 99 = .ok (.goto 10, 3) := by decide +kernel
theorem d_M_number_102 : decode m_M_number.2.1 102 = .ok (.aload_n 0, 1) := by decide +kernel
theorem d_M_number_103 : decode m_M_number.2.1 103 = .ok (.getfield 13, 3) := by decide +kernel
theorem d_M_number_106 : decode m_M_number.2.1 106 = .ok (.iload_n 2, 1) := by decide +kernel
theorem d_M_number_107 : decode m_M_number.2.1 107 = .ok (.laload, 1) := by decide +kernel
theorem d_M_number_108 : decode m_M_number.2.1 108 = .ok (.l2i, 1) := by decide +kernel
theorem d_M_number_109 : decode m_M_number.2.1 109 = .ok (.ireturn, 1) := by decide +kernel
theorem d_M_paint_0 : decode m_M_paint.2.1 0 = .ok (.aload_n 0, 1) := by decide +kernel
theorem d_M_paint_1 : decode m_M_paint.2.1 1 = .ok (.getfield 247, 3) := by decide +kernel
theorem d_M_paint_4 : decode m_M_paint.2.1 4 = .ok (.iconst 1, 1) := by decide +kernel
theorem d_M_paint_5 : decode m_M_paint.2.1 5 = .ok (.isub, 1) := by decide +kernel
theorem d_M_paint_6 : decode m_M_paint.2.1 6 = .ok (.istore_n 2, 1) := by decide +kernel
theorem d_M_paint_7 : decode m_M_paint.2.1 7 = .ok (.iload_n 1, 1) := by decide +kernel
theorem d_M_paint_8 : decode m_M_paint.2.1 8 = .ok (.bipush 65, 2) := by decide +kernel
theorem d_M_paint_10 : decode m_M_paint.2.1 10 = .ok (.if_icmp .eq 9, 3) := by decide +kernel
theorem d_M_paint_13 : decode m_M_paint.2.1 13 = .ok (.iload_n 1, 1) := by decide +kernel
theorem d_M_paint_14 : decode m_M_paint.2.1 14 = .ok (.bipush 66, 2) := by decide +kernel
theorem d_M_paint_16 : decode m_M_paint.2.1 16 = .ok (.if_icmp .ne 13, 3) := by decide +kernel
theorem d_M_paint_19 : decode m_M_paint.2.1 19 = .ok (.aload_n 0, 1) := by decide +kernel
theorem d_M_paint_20 : decode m_M_paint.2.1 20 = .ok (.iload_n 2, 1) := by decide +kernel
theorem d_M_paint_21 : decode m_M_paint.2.1 21 = .ok (.iconst 1, 1) := by decide +kernel
theorem d_M_paint_22 : decode m_M_paint.2.1 22 = .ok (.isub, 1) := by decide +kernel
theorem d_M_paint_23 : decode m_M_paint.2.1 23 = .ok (.invokevirtual 473, 3) := by decide +kernel
theorem d_M_paint_26 : decode m_M_paint.2.1 26 = .ok (.goto 4, 3) := by decide +kernel
theorem d_M_paint_29 : decode m_M_paint.2.1 29 = .ok (.dconst 0, 1) := by decide +kernel
theorem d_M_paint_30 : decode m_M_paint.2.1 30 = .ok (.dstore_n 3, 1) := by decide +kernel
theorem d_M_paint_31 : decode m_M_paint.2.1 31 = .ok (.iload_n 1, 1) := by decide +kernel
theorem d_M_paint_32 : decode m_M_paint.2.1 32 = .ok (.bipush 62, 2) := by decide +kernel
theorem d_M_paint_34 : decode m_M_paint.2.1 34 = .ok (.if_icmp .le 23, 3) := by decide +kernel
theorem d_M_paint_37 : decode m_M_paint.2.1 37 = .ok (.iload_n 1, 1) := by decide +kernel
theorem d_M_paint_38 : decode m_M_paint.2.1 38 = .ok (.bipush 67, 2) := by decide +kernel
theorem d_M_paint_40 : decode m_M_paint.2.1 40 = .ok (.if_icmp .ge 17, 3) := by decide +kernel
theorem d_M_paint_43 : decode m_M_paint.2.1 43 = .ok (.iload_n 1, 1) := by decide +kernel
theorem d_M_paint_44 : decode m_M_paint.2.1 44 = .ok (.bipush 64, 2) := by decide +kernel
theorem d_M_paint_46 : decode m_M_paint.2.1 46 = .ok (.if_icmp .eq 11, 3) := by decide +kernel
theorem d_M_paint_49 : decode m_M_paint.2.1 49 = .ok (.aload_n 0, 1) := by decide +kernel
theorem d_M_paint_50 : decode m_M_paint.2.1 50 = .ok (.iload_n 2, 1) := by decide +kernel
theorem d_M_paint_51 : decode m_M_paint.2.1 51 = .ok (.invokevirtual 473, 3) := by decide +kernel
theorem d_M_paint_54 : decode m_M_paint.2.1 54 = .ok (.goto 4, 3) := by decide +kernel
theorem d_M_paint_57 : decode m_M_paint.2.1 57 = .ok (.dconst 0, 1) := by decide +kernel
theorem d_M_paint_58 : decode m_M_paint.2.1 58 = .ok (.dstore 5, 2) := by decide +kernel
theorem d_M_paint_60 : decode m_M_paint.2.1 60 = .ok (.iload_n 1, 1) := by decide +kernel
theorem d_M_paint_61 : decode m_M_paint.2.1 61 = .ok (.tableswitch 253 63 67 #[35, 70, 77, 77, 183], 35) := by decide +kernel
theorem d_M_paint_96 : decode m_M_paint.2.1 96 = .ok (.dload 5, 2) := by decide +kernel
theorem d_M_paint_98 : decode m_M_paint.2.1 98 = .ok (.dconst 0, 1) := by decide +kernel
theorem d_M_paint_99 : decode m_M_paint.2.1 99 = .ok (.dcmp .l, 1) := by decide +kernel
theorem d_M_paint_100 : decode m_M_paint.2.1 100 = .ok (.ifCond .lt 10, 3) := by decide +kernel
theorem d_M_paint_103 : decode m_M_paint.2.1 103 = .ok (.dload 5, 2) := by decide +kernel
theorem d_M_paint_105 : decode m_M_paint.2.1 105 = .ok (.dconst 1, 1) := by decide +kernel
theorem d_M_paint_106 : decode m_M_paint.2.1 106 = .ok (.dcmp .g, 1) := by decide +kernel
theorem d_M_paint_107 : decode m_M_paint.2.1 107 = .ok (.ifCond .le 5, 3) := by decide +kernel
theorem d_M_paint_110 : decode m_M_paint.2.1 110 = .ok (.iconst 4, 1) := by decide +kernel
theorem d_M_paint_111 : decode m_M_paint.2.1 111 = .ok (.ireturn, 1) := by decide +kernel
theorem d_M_paint_112 : decode m_M_paint.2.1 112 = .ok (.aload_n 0, 1) := by decide +kernel
theorem d_M_paint_113 : decode m_M_paint.2.1 113 = .ok (.dload 5, 2) := by decide +kernel
theorem d_M_paint_115 : decode m_M_paint.2.1 115 = .ok (.d2f, 1) := by decide +kernel
theorem d_M_paint_116 : decode m_M_paint.2.1 116 = .ok (.putfield 74, 3) := by decide +kernel
theorem d_M_paint_119 : decode m_M_paint.2.1 119 = .ok (.aload_n 0, 1) := by decide +kernel
theorem d_M_paint_120 : decode m_M_paint.2.1 120 = .ok (.dup, 1) := by decide +kernel
theorem d_M_paint_121 : decode m_M_paint.2.1 121 = .ok (.getfield 247, 3) := by decide +kernel
theorem d_M_paint_124 : decode m_M_paint.2.1 124 = .ok (.iconst 1, 1) := by decide +kernel
theorem d_M_paint_125 : decode m_M_paint.2.1 125 = .ok (.isub, 1) := by decide +kernel
theorem d_M_paint_126 : decode m_M_paint.2.1 126 = .ok (.putfield 247, 3) := by decide +kernel
theorem d_M_paint_129 : decode m_M_paint.2.1 129 = .ok (.iconst 0, 1) := by decide +kernel
theorem d_M_paint_130 : decode m_M_paint.2.1 130 = .ok (.ireturn, 1) := by decide +kernel
theorem d_M_paint_131 : decode m_M_paint.2.1 131 = .ok (.aload_n 0, 1) := by decide +kernel
theorem d_M_paint_132 : decode m_M_paint.2.1 132 = .ok (.iconst 0, 1) := by decide +kernel
theorem d_M_paint_133 : decode m_M_paint.2.1 133 = .ok (.putfield 547, 3) := by decide +kernel
theorem d_M_paint_136 : decode m_M_paint.2.1 136 = .ok (.iconst 0, 1) := by decide +kernel
theorem d_M_paint_137 : decode m_M_paint.2.1 137 = .ok (.ireturn, 1) := by decide +kernel
theorem d_M_paint_138 : decode m_M_paint.2.1 138 = .ok (.dload_n 3, 1) := by decide +kernel
theorem d_M_paint_139 : decode m_M_paint.2.1 139 = .ok (.ldc2_w 550, 3) := by decide +kernel
theorem d_M_paint_142 : decode m_M_paint.2.1 142 = .ok (.dcmp .l, 1) := by decide +kernel
theorem d_M_paint_143 : decode m_M_paint.2.1 143 = .ok (.ifCond .gt 29, 3) := by decide +kernel
theorem d_M_paint_146 : decode m_M_paint.2.1 146 = .ok (.dload_n 3, 1) := by decide +kernel
theorem d_M_paint_147 : decode m_M_paint.2.1 147 = .ok (.ldc2_w 552, 3) := by decide +kernel
theorem d_M_paint_150 : decode m_M_paint.2.1 150 = .ok (.dcmp .g, 1) := by decide +kernel
theorem d_M_paint_151 : decode m_M_paint.2.1 151 = .ok (.ifCond .lt 21, 3) := by decide +kernel
theorem d_M_paint_154 : decode m_M_paint.2.1 154 = .ok (.dload 5, 2) := by decide +kernel
theorem d_M_paint_156 : decode m_M_paint.2.1 156 = .ok (.ldc2_w 550, 3) := by decide +kernel
theorem d_M_paint_159 : decode m_M_paint.2.1 159 = .ok (.dcmp .l, 1) := by decide +kernel
theorem d_M_paint_160 : decode m_M_paint.2.1 160 = .ok (.ifCond .gt 12, 3) := by decide +kernel
theorem d_M_paint_163 : decode m_M_paint.2.1 163 = .ok (.dload 5, 2) := by decide +kernel
theorem d_M_paint_165 : decode m_M_paint.2.1 165 = .ok (.ldc2_w 552, 3) := by decide +kernel
theorem d_M_paint_168 : decode m_M_paint.2.1 168 = .ok (.dcmp .g, 1) := by decide +kernel
theorem d_M_paint_169 : decode m_M_paint.2.1 169 = .ok (.ifCond .ge 5, 3) := by decide +kernel
theorem d_M_paint_172 : decode m_M_paint.2.1 172 = .ok (.iconst 4, 1) := by decide +kernel
theorem d_M_paint_173 : decode m_M_paint.2.1 173 = .ok (.ireturn, 1) := by decide +kernel
theorem d_M_paint_174 : decode m_M_paint.2.1 174 = .ok (.iload_n 1, 1) := by decide +kernel
theorem d_M_paint_175 : decode m_M_paint.2.1 175 = .ok (.bipush 66, 2) := by decide +kernel
theorem d_M_paint_177 : decode m_M_paint.2.1 177 = .ok (.if_icmp .ne 13, 3) := by decide +kernel
theorem d_M_paint_180 : decode m_M_paint.2.1 180 = .ok (.aload_n 0, 1) := by decide +kernel
theorem d_M_paint_181 : decode m_M_paint.2.1 181 = .ok (.getfield 547, 3) := by decide +kernel
theorem d_M_paint_184 : decode m_M_paint.2.1 184 = .ok (.ifCond .ne 6, 3) := by decide +kernel
theorem d_M_paint_187 : decode m_M_paint.2.1 187 = .ok (.bipush 13, 2) := by decide +kernel
theorem d_M_paint_189 : decode m_M_paint.2.1 189 = .ok (.ireturn, 1) := by decide +kernel
theorem d_M_paint_190 : decode m_M_paint.2.1 190 = .ok (.aload_n 0, 1) := by decide +kernel
theorem d_M_paint_191 : decode m_M_paint.2.1 191 = .ok (.getfield 547, 3) := by decide +kernel
theorem d_M_paint_194 : decode m_M_paint.2.1 194 = .ok (.bipush 30, 2) := by decide +kernel
theorem d_M_paint_196 : decode m_M_paint.2.1 196 = .ok (.if_icmp .ne 6, 3) := by decide +kernel
theorem d_M_paint_199 : decode m_M_paint.2.1 199 = .ok (.bipush 7, 2) := by decide +kernel
theorem d_M_paint_201 : decode m_M_paint.2.1 201 = .ok (.ireturn, 1) := by decide +kernel
theorem d_M_paint_202 : decode m_M_paint.2.1 202 = .ok (.aload_n 0, 1) := by decide +kernel
theorem d_M_paint_203 : decode m_M_paint.2.1 203 = .ok (.dup, 1) := by decide +kernel
theorem d_M_paint_204 : decode m_M_paint.2.1 204 = .ok (.getfield 247, 3) := by decide +kernel
theorem d_M_paint_207 : decode m_M_paint.2.1 207 = .ok (.iconst 2, 1) := by decide +kernel
theorem d_M_paint_208 : decode m_M_paint.2.1 208 = .ok (.isub, 1) := by decide +kernel
theorem d_M_paint_209 : decode m_M_paint.2.1 209 = .ok (.putfield 247, 3) := by decide +kernel
theorem d_M_paint_212 : decode m_M_paint.2.1 212 = .ok (.aload_n 0, 1) := by decide +kernel
theorem d_M_paint_213 : decode m_M_paint.2.1 213 = .ok (.dload_n 3, 1) := by decide +kernel
theorem d_M_paint_214 : decode m_M_paint.2.1 214 = .ok (.dload 5, 2) := by decide +kernel
theorem d_M_paint_216 : decode m_M_paint.2.1 216 = .ok (.iload_n 1, 1) := by decide +kernel
theorem d_M_paint_217 : decode m_M_paint.2.1 217 = .ok (.bipush 65, 2) := by decide +kernel
theorem d_M_paint_219 : decode m_M_paint.2.1 219 = .ok (.if_icmp .ne 10, 3) := by decide +kernel
theorem d_M_paint_222 : decode m_M_paint.2.1 222 = .ok (.aload_n 0, 1) := by decide +kernel
theorem d_M_paint_223 : decode m_M_paint.2.1 223 = .ok (.getfield 547, 3) := by decide +kernel
theorem d_M_paint_226 : decode m_M_paint.2.1 226 = .ok (.goto 14, 3) := by decide +kernel
theorem d_M_paint_229 : decode m_M_paint.2.1 229 = .ok (.aload_n 0, 1) := by decide +kernel
theorem d_M_paint_230 : decode m_M_paint.2.1 230 = .ok (.getfield 84, 3) := by decide +kernel
theorem d_M_paint_233 : decode m_M_paint.2.1 233 = .ok (.aload_n 0, 1) := by decide +kernel
theorem d_M_paint_234 : decode m_M_paint.2.1 234 = .ok (.getfield 547, 3) := by decide +kernel
theorem d_M_paint_237 : decode m_M_paint.2.1 237 = .ok (.iconst 1, 1) := by decide +kernel
theorem d_M_paint_238 : decode m_M_paint.2.1 238 = .ok (.isub, 1) := by decide +kernel
theorem d_M_paint_239 : decode m_M_paint.2.1 239 = .ok (.iaload, 1) := by decide +kernel
theorem d_M_paint_240 : decode m_M_paint.2.1 240 = .ok (.invokevirtual 554, 3) := by decide +kernel
theorem d_M_paint_243 : decode m_M_paint.2.1 243 = .ok (.ireturn, 1) := by decide +kernel
theorem d_M_paint_244 : decode m_M_paint.2.1 244 = .ok (.aload_n 0, 1) := by decide +kernel
theorem d_M_paint_245 : decode m_M_paint.2.1 245 = .ok (.getfield 547, 3) := by decide +kernel
theorem d_M_paint_248 : decode m_M_paint.2.1 248 = .ok (.ifCond .ne 6, 3) := by decide +kernel
theorem d_M_paint_251 : decode m_M_paint.2.1 251 = .ok (.bipush 13, 2) := by decide +kernel
theorem d_M_paint_253 : decode m_M_paint.2.1 253 = .ok (.ireturn, 1) := by decide +kernel
theorem d_M_paint_254 : decode m_M_paint.2.1 254 = .ok (.aload_n 0, 1) := by decide +kernel
theorem d_M_paint_255 : decode m_M_paint.2.1 255 = .ok (.getfield 547, 3) := by decide +kernel
theorem d_M_paint_258 : decode m_M_paint.2.1 258 = .ok (.bipush 30, 2) := by decide +kernel
theorem d_M_paint_260 : decode m_M_paint.2.1 260 = .ok (.if_icmp .ne 6, 3) := by decide +kernel
theorem d_M_paint_263 : decode m_M_paint.2.1 263 = .ok (.bipush 7, 2) := by decide +kernel
theorem d_M_paint_265 : decode m_M_paint.2.1 265 = .ok (.ireturn, 1) := by decide +kernel
theorem d_M_paint_266 : decode m_M_paint.2.1 266 = .ok (.aload_n 0, 1) := by decide +kernel
theorem d_M_paint_267 : decode m_M_paint.2.1 267 = .ok (.aload_n 0, 1) := by decide +kernel
theorem d_M_paint_268 : decode m_M_paint.2.1 268 = .ok (.getfield 78, 3) := by decide +kernel
theorem d_M_paint_271 : decode m_M_paint.2.1 271 = .ok (.aload_n 0, 1) := by decide +kernel
theorem d_M_paint_272 : decode m_M_paint.2.1 272 = .ok (.getfield 84, 3) := by decide +kernel
theorem d_M_paint_275 : decode m_M_paint.2.1 275 = .ok (.aload_n 0, 1) := by decide +kernel
theorem d_M_paint_276 : decode m_M_paint.2.1 276 = .ok (.getfield 547, 3) := by decide +kernel
theorem d_M_paint_279 : decode m_M_paint.2.1 279 = .ok (.iconst 1, 1) := by decide +kernel
theorem d_M_paint_280 : decode m_M_paint.2.1 280 = .ok (.isub, 1) := by decide +kernel
theorem d_M_paint_281 : decode m_M_paint.2.1 281 = .ok (.iaload, 1) := by decide +kernel
theorem d_M_paint_282 : decode m_M_paint.2.1 282 = .ok (.daload, 1) := by decide +kernel
theorem d_M_paint_283 : decode m_M_paint.2.1 283 = .ok (.aload_n 0, 1) := by decide +kernel
theorem d_M_paint_284 : decode m_M_paint.2.1 284 = .ok (.getfield 81, 3) := by decide +kernel
theorem d_M_paint_287 : decode m_M_paint.2.1 287 = .ok (.aload_n 0, 1) := by decide +kernel
theorem d_M_paint_288 : decode m_M_paint.2.1 288 = .ok (.getfield 84, 3) := by decide +kernel
theorem d_M_paint_291 : decode m_M_paint.2.1 291 = .ok (.aload_n 0, 1) := by decide +kernel
theorem d_M_paint_292 : decode m_M_paint.2.1 292 = .ok (.getfield 547, 3) := by decide +kernel
theorem d_M_paint_295 : decode m_M_paint.2.1 295 = .ok (.iconst 1, 1) := by decide +kernel
theorem d_M_paint_296 : decode m_M_paint.2.1 296 = .ok (.isub, 1) := by decide +kernel
theorem d_M_paint_297 : decode m_M_paint.2.1 297 = .ok (.iaload, 1) := by decide +kernel
theorem d_M_paint_298 : decode m_M_paint.2.1 298 = .ok (.daload, 1) := by decide +kernel
theorem d_M_paint_299 : decode m_M_paint.2.1 299 = .ok (.aload_n 0, 1) := by decide +kernel
theorem d_M_paint_300 : decode m_M_paint.2.1 300 = .ok (.getfield 84, 3) := by decide +kernel
theorem d_M_paint_303 : decode m_M_paint.2.1 303 = .ok (.aload_n 0, 1) := by decide +kernel
theorem d_M_paint_304 : decode m_M_paint.2.1 304 = .ok (.getfield 547, 3) := by decide +kernel
theorem d_M_paint_307 : decode m_M_paint.2.1 307 = .ok (.iconst 1, 1) := by decide +kernel
theorem d_M_paint_308 : decode m_M_paint.2.1 308 = .ok (.isub, 1) := by decide +kernel
theorem d_M_paint_309 : decode m_M_paint.2.1 309 = .ok (.iaload, 1) := by decide +kernel
theorem d_M_paint_310 : decode m_M_paint.2.1 310 = .ok (.invokevirtual 554, 3) := by decide +kernel
theorem d_M_paint_313 : decode m_M_paint.2.1 313 = .ok (.ireturn, 1) := by decide +kernel
theorem d_M_paint_314 : decode m_M_paint.2.1 314 = .ok (.iconst 0, 1) := by decide +kernel
theorem d_M_paint_315 : decode m_M_paint.2.1 315 = .ok (.istore 7, 2) := by decide +kernel
theorem d_M_paint_317 : decode m_M_paint.2.1 317 = .ok (.iload 7, 2) := by decide +kernel
theorem d_M_paint_319 : decode m_M_paint.2.1 319 = .ok (.aload_n 0, 1) := by decide +kernel
theorem d_M_paint_320 : decode m_M_paint.2.1 320 = .ok (.getfield 236, 3) := by decide +kernel
theorem d_M_paint_323 : decode m_M_paint.2.1 323 = .ok (.aload_n 0, 1) := by decide +kernel
theorem d_M_paint_324 : decode m_M_paint.2.1 324 = .ok (.getfield 239, 3) := by decide +kernel
theorem d_M_paint_327 : decode m_M_paint.2.1 327 = .ok (.imul, 1) := by decide +kernel
theorem d_M_paint_328 : decode m_M_paint.2.1 328 = .ok (.if_icmp .ge 26, 3) := by decide +kernel
theorem d_M_paint_331 : decode m_M_paint.2.1 331 = .ok (.aload_n 0, 1) := by decide +kernel
theorem d_M_paint_332 : decode m_M_paint.2.1 332 = .ok (.iload 7, 2) := by decide +kernel
theorem d_M_paint_334 : decode m_M_paint.2.1 334 = .ok (.iload_n 1, 1) := by decide +kernel
theorem d_M_paint_335 : decode m_M_paint.2.1 335 = .ok (.bipush 69, 2) := by decide +kernel
theorem d_M_paint_337 : decode m_M_paint.2.1 337 = .ok (.if_icmp .ne 7, 3) := by decide +kernel
theorem d_M_paint_340 : decode m_M_paint.2.1 340 = .ok (.iconst 1, 1) := by decide +kernel
theorem d_M_paint_341 : decode m_M_paint.2.1 341 = .ok (.goto 4, 3) := by decide +kernel
theorem d_M_paint_344 : decode m_M_paint.2.1 344 = .ok (.iconst 0, 1) := by decide +kernel
theorem d_M_paint_345 : decode m_M_paint.2.1 345 = .ok (.invokevirtual 558, 3) := by decide +kernel
theorem d_M_paint_348 : decode m_M_paint.2.1 348 = .ok (.iinc 7 1, 3) := by decide +kernel
theorem d_M_paint_351 : decode m_M_paint.2.1 351 = .ok (.goto (-34), 3) := by decide +kernel
theorem d_M_paint_354 : decode m_M_paint.2.1 354 = .ok (.aload_n 0, 1) := by decide +kernel
theorem d_M_paint_355 : decode m_M_paint.2.1 355 = .ok (.iconst 0, 1) := by decide +kernel
theorem d_M_paint_356 : decode m_M_paint.2.1 356 = .ok (.putfield 547, 3) := by decide +kernel
theorem d_M_paint_359 : decode m_M_paint.2.1 359 = .ok (.iconst 0, 1) := by decide +kernel
theorem d_M_paint_360 : decode m_M_paint.2.1 360 = .ok (.ireturn, 1) := by decide +kernel
theorem d_M_push_0 : decode m_M_push.2.1 0 = .ok (.aload_n 0, 1) := by decide +kernel
theorem d_M_push_1 : decode m_M_push.2.1 1 = .ok (.getfield 247, 3) := by decide +kernel
theorem d_M_push_4 : decode m_M_push.2.1 4 = .ok (.bipush 40, 2) := by decide +kernel
theorem d_M_push_6 : decode m_M_push.2.1 6 = .ok (.if_icmp .ne 5, 3) := by decide +kernel
theorem d_M_push_9 : decode m_M_push.2.1 9 = .ok (.iconst 2, 1) := by decide +kernel
theorem d_M_push_10 : decode m_M_push.2.1 10 = .ok (.ireturn, 1) := by decide +kernel
theorem d_M_push_11 : decode m_M_push.2.1 11 = .ok (.aload_n 0, 1) := by decide +kernel
theorem d_M_push_12 : decode m_M_push.2.1 12 = .ok (.aload_n 0, 1) := by decide +kernel
theorem d_M_push_13 : decode m_M_push.2.1 13 = .ok (.getfield 247, 3) := by decide +kernel
theorem d_M_push_16 : decode m_M_push.2.1 16 = .ok (.iload_n 1, 1) := by decide +kernel
theorem d_M_push_17 : decode m_M_push.2.1 17 = .ok (.lload_n 2, 1) := by decide +kernel
theorem d_M_push_18 : decode m_M_push.2.1 18 = .ok (.invokevirtual 250, 3) := by decide +kernel
theorem d_M_push_21 : decode m_M_push.2.1 21 = .ok (.aload_n 0, 1) := by decide +kernel
theorem d_M_push_22 : decode m_M_push.2.1 22 = .ok (.dup, 1) := by decide +kernel
theorem d_M_push_23 : decode m_M_push.2.1 23 = .ok (.getfield 247, 3) := by decide +kernel
theorem d_M_push_26 : decode m_M_push.2.1 26 = .ok (.iconst 1, 1) := by decide +kernel
theorem d_M_push_27 : decode m_M_push.2.1 27 = .ok (.iadd, 1) := by decide +kernel
theorem d_M_push_28 : decode m_M_push.2.1 28 = .ok (.putfield 247, 3) := by decide +kernel
theorem d_M_push_31 : decode m_M_push.2.1 31 = .ok (.iconst 0, 1) := by decide +kernel
theorem d_M_push_32 : decode m_M_push.2.1 32 = .ok (.ireturn, 1) := by decide +kernel
theorem d_M_pushValue_0 : decode m_M_pushValue.2.1 0 = .ok (.aload_n 0, 1) := by decide +kernel
theorem d_M_pushValue_1 : decode m_M_pushValue.2.1 1 = .ok (.getfield 247, 3) := by decide +kernel
theorem d_M_pushValue_4 : decode m_M_pushValue.2.1 4 = .ok (.bipush 40, 2) := by decide +kernel
theorem d_M_pushValue_6 : decode m_M_pushValue.2.1 6 = .ok (.if_icmp .ne 5, 3) := by decide +kernel
theorem d_M_pushValue_9 : decode m_M_pushValue.2.1 9 = .ok (.iconst 2, 1) := by decide +kernel
theorem d_M_pushValue_10 : decode m_M_pushValue.2.1 10 = .ok (.ireturn, 1) := by decide +kernel
theorem d_M_pushValue_11 : decode m_M_pushValue.2.1 11 = .ok (.aload_n 0, 1) := by decide +kernel
theorem d_M_pushValue_12 : decode m_M_pushValue.2.1 12 = .ok (.aload_n 0, 1) := by decide +kernel
theorem d_M_pushValue_13 : decode m_M_pushValue.2.1 13 = .ok (.getfield 247, 3) := by decide +kernel
theorem d_M_pushValue_16 : decode m_M_pushValue.2.1 16 = .ok (.iload_n 1, 1) := by decide +kernel
theorem d_M_pushValue_17 : decode m_M_pushValue.2.1 17 = .ok (.invokevirtual 254, 3) := by decide +kernel
theorem d_M_pushValue_20 : decode m_M_pushValue.2.1 20 = .ok (.aload_n 0, 1) := by decide +kernel
theorem d_M_pushValue_21 : decode m_M_pushValue.2.1 21 = .ok (.dup, 1) := by decide +kernel
theorem d_M_pushValue_22 : decode m_M_pushValue.2.1 22 = .ok (.getfield 247, 3) := by decide +kernel
theorem d_M_pushValue_25 : decode m_M_pushValue.2.1 25 = .ok (.iconst 1, 1) := by decide +kernel
theorem d_M_pushValue_26 : decode m_M_pushValue.2.1 26 = .ok (.iadd, 1) := by decide +kernel
theorem d_M_pushValue_27 : decode m_M_pushValue.2.1 27 = .ok (.putfield 247, 3) := by decide +kernel
theorem d_M_pushValue_30 : decode m_M_pushValue.2.1 30 = .ok (.iconst 0, 1) := by decide +kernel
theorem d_M_pushValue_31 : decode m_M_pushValue.2.1 31 = .ok (.ireturn, 1) := by decide +kernel
theorem d_M_putCell_0 : decode m_M_putCell.2.1 0 = .ok (.aload_n 0, 1) := by decide +kernel
theorem d_M_putCell_1 : decode m_M_putCell.2.1 1 = .ok (.getfield 13, 3) := by decide +kernel
theorem d_M_putCell_4 : decode m_M_putCell.2.1 4 = .ok (.iload_n 1, 1) := by decide +kernel
theorem d_M_putCell_5 : decode m_M_putCell.2.1 5 = .ok (.iconst 1, 1) := by decide +kernel
theorem d_M_putCell_6 : decode m_M_putCell.2.1 6 = .ok (.isub, 1) := by decide +kernel
theorem d_M_putCell_7 : decode m_M_putCell.2.1 7 = .ok (.laload, 1) := by decide +kernel
theorem d_M_putCell_8 : decode m_M_putCell.2.1 8 = .ok (.lstore_n 2, 1) := by decide +kernel
theorem d_M_putCell_9 : decode m_M_putCell.2.1 9 = .ok (.lload_n 2, 1) := by decide +kernel
theorem d_M_putCell_10 : decode m_M_putCell.2.1 10 = .ok (.lconst 0, 1) := by decide +kernel
theorem d_M_putCell_11 : decode m_M_putCell.2.1 11 = .ok (.lcmp, 1) := by decide +kernel
theorem d_M_putCell_12 : decode m_M_putCell.2.1 12 = .ok (.ifCond .lt 20, 3) := by decide +kernel
theorem d_M_putCell_15 : decode m_M_putCell.2.1 15 = .ok (.lload_n 2, 1) := by decide +kernel
theorem d_M_putCell_16 : decode m_M_putCell.2.1 16 = .ok (.aload_n 0, 1) := by decide +kernel
theorem d_M_putCell_17 : decode m_M_putCell.2.1 17 = .ok (.getfield 13, 3) := by decide +kernel
theorem d_M_putCell_20 : decode m_M_putCell.2.1 20 = .ok (.iload_n 1, 1) := by decide +kernel
theorem d_M_putCell_21 : decode m_M_putCell.2.1 21 = .ok (.iconst 2, 1) := by decide +kernel
theorem d_M_putCell_22 : decode m_M_putCell.2.1 22 = .ok (.isub, 1) := by decide +kernel
theorem d_M_putCell_23 : decode m_M_putCell.2.1 23 = .ok (.laload, 1) := by decide +kernel
theorem d_M_putCell_24 : decode m_M_putCell.2.1 24 = .ok (.invokestatic 391, 3) := by decide +kernel
theorem d_M_putCell_27 : decode m_M_putCell.2.1 27 = .ok (.i2l, 1) := by decide +kernel
theorem d_M_putCell_28 : decode m_M_putCell.2.1 28 = .ok (.lcmp, 1) := by decide +kernel
theorem d_M_putCell_29 : decode m_M_putCell.2.1 29 = .ok (.ifCond .lt 5, 3) := by decide +kernel
theorem d_M_putCell_32 : decode m_M_putCell.2.1 32 = .ok (.iconst 4, 1) := by decide +kernel
theorem d_M_putCell_33 : decode m_M_putCell.2.1 33 = .ok (.ireturn, 1) := by decide +kernel
theorem d_M_putCell_34 : decode m_M_putCell.2.1 34 = .ok (.aload_n 0, 1) := by decide +kernel
theorem d_M_putCell_35 : decode m_M_putCell.2.1 35 = .ok (.bipush 50, 2) := by decide +kernel
theorem d_M_putCell_37 : decode m_M_putCell.2.1 37 = .ok (.aload_n 0, 1) := by decide +kernel
theorem d_M_putCell_38 : decode m_M_putCell.2.1 38 = .ok (.getfield 13, 3) := by decide +kernel
theorem d_M_putCell_41 : decode m_M_putCell.2.1 41 = .ok (.iload_n 1, 1) := by decide +kernel
theorem d_M_putCell_42 : decode m_M_putCell.2.1 42 = .ok (.iconst 2, 1) := by decide +kernel
theorem d_M_putCell_43 : decode m_M_putCell.2.1 43 = .ok (.isub, 1) := by decide +kernel
theorem d_M_putCell_44 : decode m_M_putCell.2.1 44 = .ok (.laload, 1) := by decide +kernel
theorem d_M_putCell_45 : decode m_M_putCell.2.1 45 = .ok (.invokestatic 394, 3) := by decide +kernel
theorem d_M_putCell_48 : decode m_M_putCell.2.1 48 = .ok (.iadd, 1) := by decide +kernel
theorem d_M_putCell_49 : decode m_M_putCell.2.1 49 = .ok (.lload_n 2, 1) := by decide +kernel
theorem d_M_putCell_50 : decode m_M_putCell.2.1 50 = .ok (.l2i, 1) := by decide +kernel
theorem d_M_putCell_51 : decode m_M_putCell.2.1 51 = .ok (.iadd, 1) := by decide +kernel
theorem d_M_putCell_52 : decode m_M_putCell.2.1 52 = .ok (.iload_n 1, 1) := by decide +kernel
theorem d_M_putCell_53 : decode m_M_putCell.2.1 53 = .ok (.invokevirtual 254, 3) := by decide +kernel
theorem d_M_putCell_56 : decode m_M_putCell.2.1 56 = .ok (.aload_n 0, 1) := by decide +kernel
theorem d_M_putCell_57 : decode m_M_putCell.2.1 57 = .ok (.dup, 1) := by decide +kernel
theorem d_M_putCell_58 : decode m_M_putCell.2.1 58 = .ok (.getfield 247, 3) := by decide +kernel
theorem d_M_putCell_61 : decode m_M_putCell.2.1 61 = .ok (.iconst 3, 1) := by decide +kernel
theorem d_M_putCell_62 : decode m_M_putCell.2.1 62 = .ok (.isub, 1) := by decide +kernel
theorem d_M_putCell_63 : decode m_M_putCell.2.1 63 = .ok (.putfield 247, 3) := by decide +kernel
theorem d_M_putCell_66 : decode m_M_putCell.2.1 66 = .ok (.iconst 0, 1) := by decide +kernel
theorem d_M_putCell_67 : decode m_M_putCell.2.1 67 = .ok (.ireturn, 1) := by decide +kernel
theorem d_M_readWord_0 : decode m_M_readWord.2.1 0 = .ok (.iconst 0, 1) := by decide +kernel
theorem d_M_readWord_1 : decode m_M_readWord.2.1 1 = .ok (.istore_n 2, 1) := by decide +kernel
theorem d_M_readWord_2 : decode m_M_readWord.2.1 2 = .ok (.lconst 0, 1) := by decide +kernel
theorem d_M_readWord_3 : decode m_M_readWord.2.1 3 = .ok (.lstore_n 3, 1) := by decide +kernel
theorem d_M_readWord_4 : decode m_M_readWord.2.1 4 = .ok (.aload_n 0, 1) := by decide +kernel
theorem d_M_readWord_5 : decode m_M_readWord.2.1 5 = .ok (.getfield 281, 3) := by decide +kernel
theorem d_M_readWord_8 : decode m_M_readWord.2.1 8 = .ok (.aload_n 0, 1) := by decide +kernel
theorem d_M_readWord_9 : decode m_M_readWord.2.1 9 = .ok (.getfield 270, 3) := by decide +kernel
theorem d_M_readWord_12 : decode m_M_readWord.2.1 12 = .ok (.if_icmp .ge 64, 3) := by decide +kernel
theorem d_M_readWord_15 : decode m_M_readWord.2.1 15 = .ok (.aload_n 0, 1) := by decide +kernel
theorem d_M_readWord_16 : decode m_M_readWord.2.1 16 = .ok (.getfield 61, 3) := by decide +kernel
theorem d_M_readWord_19 : decode m_M_readWord.2.1 19 = .ok (.aload_n 0, 1) := by decide +kernel
theorem d_M_readWord_20 : decode m_M_readWord.2.1 20 = .ok (.getfield 281, 3) := by decide +kernel
theorem d_M_readWord_23 : decode m_M_readWord.2.1 23 = .ok (.caload, 1) := by decide +kernel
theorem d_M_readWord_24 : decode m_M_readWord.2.1 24 = .ok (.invokestatic 304, 3) := by decide +kernel
theorem d_M_readWord_27 : decode m_M_readWord.2.1 27 = .ok (.ifCond .eq 49, 3) := by decide +kernel
theorem d_M_readWord_30 : decode m_M_readWord.2.1 30 = .ok (.iload_n 2, 1) := by decide +kernel
theorem d_M_readWord_31 : decode m_M_readWord.2.1 31 = .ok (.bipush 12, 2) := by decide +kernel
theorem d_M_readWord_33 : decode m_M_readWord.2.1 33 = .ok (.if_icmp .ge 25, 3) := by decide +kernel
theorem d_M_readWord_36 : decode m_M_readWord.2.1 36 = .ok (.lload_n 3, 1) := by decide +kernel
theorem d_M_readWord_37 : decode m_M_readWord.2.1 37 = .ok (.aload_n 0, 1) := by decide +kernel
theorem d_M_readWord_38 : decode m_M_readWord.2.1 38 = .ok (.getfield 61, 3) := by decide +kernel
theorem d_M_readWord_41 : decode m_M_readWord.2.1 41 = .ok (.aload_n 0, 1) := by decide +kernel
theorem d_M_readWord_42 : decode m_M_readWord.2.1 42 = .ok (.getfield 281, 3) := by decide +kernel
theorem d_M_readWord_45 : decode m_M_readWord.2.1 45 = .ok (.caload, 1) := by decide +kernel
theorem d_M_readWord_46 : decode m_M_readWord.2.1 46 = .ok (.bipush 96, 2) := by decide +kernel
theorem d_M_readWord_48 : decode m_M_readWord.2.1 48 = .ok (.isub, 1) := by decide +kernel
theorem d_M_readWord_49 : decode m_M_readWord.2.1 49 = .ok (.i2l, 1) := by decide +kernel
theorem d_M_readWord_50 : decode m_M_readWord.2.1 50 = .ok (.iconst 5, 1) := by decide +kernel
theorem d_M_readWord_51 : decode m_M_readWord.2.1 51 = .ok (.iload_n 2, 1) := by decide +kernel
theorem d_M_readWord_52 : decode m_M_readWord.2.1 52 = .ok (.imul, 1) := by decide +kernel
theorem d_M_readWord_53 : decode m_M_readWord.2.1 53 = .ok (.lshl, 1) := by decide +kernel
theorem d_M_readWord_54 : decode m_M_readWord.2.1 54 = .ok (.lor, 1) := by decide +kernel
theorem d_M_readWord_55 : decode m_M_readWord.2.1 55 = .ok (.goto 4, 3) := by decide +kernel
theorem d_M_readWord_58 : decode m_M_readWord.2.1 58 = .ok (.lload_n 3, 1) := by decide +kernel
theorem d_M_readWord_59 : decode m_M_readWord.2.1 59 = .ok (.lstore_n 3, 1) := by decide +kernel
theorem d_M_readWord_60 : decode m_M_readWord.2.1 60 = .ok (.iinc 2 1, 3) := by decide +kernel
theorem d_M_readWord_63 : decode m_M_readWord.2.1 63 = .ok (.aload_n 0, 1) := by decide +kernel
