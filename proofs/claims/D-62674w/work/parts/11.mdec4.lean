theorem d_M_newDict_64 : decode m_M_newDict.2.1 64 = .ok (.iconst 1, 1) := by decide +kernel
theorem d_M_newDict_65 : decode m_M_newDict.2.1 65 = .ok (.bipush 6, 2) := by decide +kernel
theorem d_M_newDict_67 : decode m_M_newDict.2.1 67 = .ok (.iload_n 3, 1) := by decide +kernel
theorem d_M_newDict_68 : decode m_M_newDict.2.1 68 = .ok (.i2l, 1) := by decide +kernel
theorem d_M_newDict_69 : decode m_M_newDict.2.1 69 = .ok (.invokevirtual 262, 3) := by decide +kernel
theorem d_M_newDict_72 : decode m_M_newDict.2.1 72 = .ok (.ireturn, 1) := by decide +kernel
theorem d_M_part_0 : decode m_M_part.2.1 0 = .ok (.lload_n 3, 1) := by decide +kernel
theorem d_M_part_1 : decode m_M_part.2.1 1 = .ok (.lconst 0, 1) := by decide +kernel
theorem d_M_part_2 : decode m_M_part.2.1 2 = .ok (.lcmp, 1) := by decide +kernel
theorem d_M_part_3 : decode m_M_part.2.1 3 = .ok (.ifCond .lt 23, 3) := by decide +kernel
theorem d_M_part_6 : decode m_M_part.2.1 6 = .ok (.lload 5, 2) := by decide +kernel
theorem d_M_part_8 : decode m_M_part.2.1 8 = .ok (.lconst 0, 1) := by decide +kernel
theorem d_M_part_9 : decode m_M_part.2.1 9 = .ok (.lcmp, 1) := by decide +kernel
theorem d_M_part_10 : decode m_M_part.2.1 10 = .ok (.ifCond .lt 16, 3) := by decide +kernel
theorem d_M_part_13 : decode m_M_part.2.1 13 = .ok (.lload_n 3, 1) := by decide +kernel
theorem d_M_part_14 : decode m_M_part.2.1 14 = .ok (.lload 5, 2) := by decide +kernel
theorem d_M_part_16 : decode m_M_part.2.1 16 = .ok (.ladd, 1) := by decide +kernel
theorem d_M_part_17 : decode m_M_part.2.1 17 = .ok (.lload_n 1, 1) := by decide +kernel
theorem d_M_part_18 : decode m_M_part.2.1 18 = .ok (.invokestatic 391, 3) := by decide +kernel
theorem d_M_part_21 : decode m_M_part.2.1 21 = .ok (.i2l, 1) := by decide +kernel
theorem d_M_part_22 : decode m_M_part.2.1 22 = .ok (.lcmp, 1) := by decide +kernel
theorem d_M_part_23 : decode m_M_part.2.1 23 = .ok (.ifCond .le 5, 3) := by decide +kernel
theorem d_M_part_26 : decode m_M_part.2.1 26 = .ok (.iconst 4, 1) := by decide +kernel
theorem d_M_part_27 : decode m_M_part.2.1 27 = .ok (.ireturn, 1) := by decide +kernel
theorem d_M_part_28 : decode m_M_part.2.1 28 = .ok (.aload_n 0, 1) := by decide +kernel
theorem d_M_part_29 : decode m_M_part.2.1 29 = .ok (.iconst 3, 1) := by decide +kernel
theorem d_M_part_30 : decode m_M_part.2.1 30 = .ok (.aload_n 0, 1) := by decide +kernel
theorem d_M_part_31 : decode m_M_part.2.1 31 = .ok (.getfield 7, 3) := by decide +kernel
theorem d_M_part_34 : decode m_M_part.2.1 34 = .ok (.aload_n 0, 1) := by decide +kernel
theorem d_M_part_35 : decode m_M_part.2.1 35 = .ok (.getfield 247, 3) := by decide +kernel
theorem d_M_part_38 : decode m_M_part.2.1 38 = .ok (.iconst 3, 1) := by decide +kernel
theorem d_M_part_39 : decode m_M_part.2.1 39 = .ok (.isub, 1) := by decide +kernel
theorem d_M_part_40 : decode m_M_part.2.1 40 = .ok (.iaload, 1) := by decide +kernel
theorem d_M_part_41 : decode m_M_part.2.1 41 = .ok (.lload_n 1, 1) := by decide +kernel
theorem d_M_part_42 : decode m_M_part.2.1 42 = .ok (.invokestatic 394, 3) := by decide +kernel
theorem d_M_part_45 : decode m_M_part.2.1 45 = .ok (.i2l, 1) := by decide +kernel
theorem d_M_part_46 : decode m_M_part.2.1 46 = .ok (.lload_n 3, 1) := by decide +kernel
theorem d_M_part_47 : decode m_M_part.2.1 47 = .ok (.ladd, 1) := by decide +kernel
theorem d_M_part_48 : decode m_M_part.2.1 48 = .ok (.ldc2_w 328, 3) := by decide +kernel
theorem d_M_part_51 : decode m_M_part.2.1 51 = .ok (.lload 5, 2) := by decide +kernel
theorem d_M_part_53 : decode m_M_part.2.1 53 = .ok (.lmul, 1) := by decide +kernel
theorem d_M_part_54 : decode m_M_part.2.1 54 = .ok (.ladd, 1) := by decide +kernel
theorem d_M_part_55 : decode m_M_part.2.1 55 = .ok (.invokevirtual 262, 3) := by decide +kernel
theorem d_M_part_58 : decode m_M_part.2.1 58 = .ok (.ireturn, 1) := by decide +kernel
theorem d_M_putEntry_0 : decode m_M_putEntry.2.1 0 = .ok (.aload_n 0, 1) := by decide +kernel
theorem d_M_putEntry_1 : decode m_M_putEntry.2.1 1 = .ok (.iload_n 1, 1) := by decide +kernel
theorem d_M_putEntry_2 : decode m_M_putEntry.2.1 2 = .ok (.lload_n 2, 1) := by decide +kernel
theorem d_M_putEntry_3 : decode m_M_putEntry.2.1 3 = .ok (.invokevirtual 362, 3) := by decide +kernel
theorem d_M_putEntry_6 : decode m_M_putEntry.2.1 6 = .ok (.istore 5, 2) := by decide +kernel
theorem d_M_putEntry_8 : decode m_M_putEntry.2.1 8 = .ok (.iload 5, 2) := by decide +kernel
theorem d_M_putEntry_10 : decode m_M_putEntry.2.1 10 = .ok (.iconst (-1), 1) := by decide +kernel
theorem d_M_putEntry_11 : decode m_M_putEntry.2.1 11 = .ok (.if_icmp .ne 21, 3) := by decide +kernel
theorem d_M_putEntry_14 : decode m_M_putEntry.2.1 14 = .ok (.aload_n 0, 1) := by decide +kernel
theorem d_M_putEntry_15 : decode m_M_putEntry.2.1 15 = .ok (.getfield 24, 3) := by decide +kernel
theorem d_M_putEntry_18 : decode m_M_putEntry.2.1 18 = .ok (.iload_n 1, 1) := by decide +kernel
theorem d_M_putEntry_19 : decode m_M_putEntry.2.1 19 = .ok (.iaload, 1) := by decide +kernel
theorem d_M_putEntry_20 : decode m_M_putEntry.2.1 20 = .ok (.aload_n 0, 1) := by decide +kernel
theorem d_M_putEntry_21 : decode m_M_putEntry.2.1 21 = .ok (.getfield 27, 3) := by decide +kernel
theorem d_M_putEntry_24 : decode m_M_putEntry.2.1 24 = .ok (.iload_n 1, 1) := by decide +kernel
theorem d_M_putEntry_25 : decode m_M_putEntry.2.1 25 = .ok (.iaload, 1) := by decide +kernel
theorem d_M_putEntry_26 : decode m_M_putEntry.2.1 26 = .ok (.if_icmp .ne 6, 3) := by decide +kernel
theorem d_M_putEntry_29 : decode m_M_putEntry.2.1 29 = .ok (.bipush 8, 2) := by decide +kernel
theorem d_M_putEntry_31 : decode m_M_putEntry.2.1 31 = .ok (.ireturn, 1) := by decide +kernel
theorem d_M_putEntry_32 : decode m_M_putEntry.2.1 32 = .ok (.iload 5, 2) := by decide +kernel
theorem d_M_putEntry_34 : decode m_M_putEntry.2.1 34 = .ok (.iconst (-1), 1) := by decide +kernel
theorem d_M_putEntry_35 : decode m_M_putEntry.2.1 35 = .ok (.if_icmp .ne 42, 3) := by decide +kernel
theorem d_M_putEntry_38 : decode m_M_putEntry.2.1 38 = .ok (.sipush 250, 3) := by decide +kernel
theorem d_M_putEntry_41 : decode m_M_putEntry.2.1 41 = .ok (.iload_n 1, 1) := by decide +kernel
theorem d_M_putEntry_42 : decode m_M_putEntry.2.1 42 = .ok (.invokestatic 516, 3) := by decide +kernel
theorem d_M_putEntry_45 : decode m_M_putEntry.2.1 45 = .ok (.iadd, 1) := by decide +kernel
theorem d_M_putEntry_46 : decode m_M_putEntry.2.1 46 = .ok (.aload_n 0, 1) := by decide +kernel
theorem d_M_putEntry_47 : decode m_M_putEntry.2.1 47 = .ok (.getfield 24, 3) := by decide +kernel
theorem d_M_putEntry_50 : decode m_M_putEntry.2.1 50 = .ok (.iload_n 1, 1) := by decide +kernel
theorem d_M_putEntry_51 : decode m_M_putEntry.2.1 51 = .ok (.iaload, 1) := by decide +kernel
theorem d_M_putEntry_52 : decode m_M_putEntry.2.1 52 = .ok (.iadd, 1) := by decide +kernel
theorem d_M_putEntry_53 : decode m_M_putEntry.2.1 53 = .ok (.istore 5, 2) := by decide +kernel
theorem d_M_putEntry_55 : decode m_M_putEntry.2.1 55 = .ok (.aload_n 0, 1) := by decide +kernel
theorem d_M_putEntry_56 : decode m_M_putEntry.2.1 56 = .ok (.getfield 21, 3) := by decide +kernel
theorem d_M_putEntry_59 : decode m_M_putEntry.2.1 59 = .ok (.iload 5, 2) := by decide +kernel
theorem d_M_putEntry_61 : decode m_M_putEntry.2.1 61 = .ok (.sipush 250, 3) := by decide +kernel
theorem d_M_putEntry_64 : decode m_M_putEntry.2.1 64 = .ok (.isub, 1) := by decide +kernel
theorem d_M_putEntry_65 : decode m_M_putEntry.2.1 65 = .ok (.lload_n 2, 1) := by decide +kernel
theorem d_M_putEntry_66 : decode m_M_putEntry.2.1 66 = .ok (.lastore, 1) := by decide +kernel
theorem d_M_putEntry_67 : decode m_M_putEntry.2.1 67 = .ok (.aload_n 0, 1) := by decide +kernel
theorem d_M_putEntry_68 : decode m_M_putEntry.2.1 68 = .ok (.getfield 24, 3) := by decide +kernel
theorem d_M_putEntry_71 : decode m_M_putEntry.2.1 71 = .ok (.iload_n 1, 1) := by decide +kernel
theorem d_M_putEntry_72 : decode m_M_putEntry.2.1 72 = .ok (.dup2, 1) := by decide +kernel
theorem d_M_putEntry_73 : decode m_M_putEntry.2.1 73 = .ok (.iaload, 1) := by decide +kernel
theorem d_M_putEntry_74 : decode m_M_putEntry.2.1 74 = .ok (.iconst 1, 1) := by decide +kernel
theorem d_M_putEntry_75 : decode m_M_putEntry.2.1 75 = .ok (.iadd, 1) := by decide +kernel
theorem d_M_putEntry_76 : decode m_M_putEntry.2.1 76 = .ok (.iastore, 1) := by decide +kernel
theorem d_M_putEntry_77 : decode m_M_putEntry.2.1 77 = .ok (.aload_n 0, 1) := by decide +kernel
theorem d_M_putEntry_78 : decode m_M_putEntry.2.1 78 = .ok (.iload 5, 2) := by decide +kernel
theorem d_M_putEntry_80 : decode m_M_putEntry.2.1 80 = .ok (.aload_n 0, 1) := by decide +kernel
theorem d_M_putEntry_81 : decode m_M_putEntry.2.1 81 = .ok (.getfield 247, 3) := by decide +kernel
theorem d_M_putEntry_84 : decode m_M_putEntry.2.1 84 = .ok (.iconst 1, 1) := by decide +kernel
theorem d_M_putEntry_85 : decode m_M_putEntry.2.1 85 = .ok (.isub, 1) := by decide +kernel
theorem d_M_putEntry_86 : decode m_M_putEntry.2.1 86 = .ok (.invokevirtual 254, 3) := by decide +kernel
theorem d_M_putEntry_89 : decode m_M_putEntry.2.1 89 = .ok (.aload_n 0, 1) := by decide +kernel
theorem d_M_putEntry_90 : decode m_M_putEntry.2.1 90 = .ok (.dup, 1) := by decide +kernel
theorem d_M_putEntry_91 : decode m_M_putEntry.2.1 91 = .ok (.getfield 247, 3) := by decide +kernel
theorem d_M_putEntry_94 : decode m_M_putEntry.2.1 94 = .ok (.iload 4, 2) := by decide +kernel
theorem d_M_putEntry_96 : decode m_M_putEntry.2.1 96 = .ok (.isub, 1) := by decide +kernel
theorem d_M_putEntry_97 : decode m_M_putEntry.2.1 97 = .ok (.putfield 247, 3) := by decide +kernel
theorem d_M_putEntry_100 : decode m_M_putEntry.2.1 100 = .ok (.iconst 0, 1) := by decide +kernel
theorem d_M_putEntry_101 : decode m_M_putEntry.2.1 101 = .ok (.ireturn, 1) := by decide +kernel
theorem d_M_readNumber_0 : decode m_M_readNumber.2.1 0 = .ok (.aload_n 0, 1) := by decide +kernel
theorem d_M_readNumber_1 : decode m_M_readNumber.2.1 1 = .ok (.getfield 61, 3) := by decide +kernel
theorem d_M_readNumber_4 : decode m_M_readNumber.2.1 4 = .ok (.aload_n 0, 1) := by decide +kernel
theorem d_M_readNumber_5 : decode m_M_readNumber.2.1 5 = .ok (.getfield 281, 3) := by decide +kernel
theorem d_M_readNumber_8 : decode m_M_readNumber.2.1 8 = .ok (.caload, 1) := by decide +kernel
theorem d_M_readNumber_9 : decode m_M_readNumber.2.1 9 = .ok (.bipush 45, 2) := by decide +kernel
theorem d_M_readNumber_11 : decode m_M_readNumber.2.1 11 = .ok (.if_icmp .ne 7, 3) := by decide +kernel
theorem d_M_readNumber_14 : decode m_M_readNumber.2.1 14 = .ok (.iconst 1, 1) := by decide +kernel
theorem d_M_readNumber_15 : decode m_M_readNumber.2.1 15 = .ok (.goto 4, 3) := by decide +kernel
theorem d_M_readNumber_18 : decode m_M_readNumber.2.1 18 = .ok (.iconst 0, 1) := by decide +kernel
theorem d_M_readNumber_19 : decode m_M_readNumber.2.1 19 = .ok (.istore_n 1, 1) := by decide +kernel
theorem d_M_readNumber_20 : decode m_M_readNumber.2.1 20 = .ok (.iload_n 1, 1) := by decide +kernel
theorem d_M_readNumber_21 : decode m_M_readNumber.2.1 21 = .ok (.ifCond .eq 12, 3) := by decide +kernel
theorem d_M_readNumber_24 : decode m_M_readNumber.2.1 24 = .ok (.aload_n 0, 1) := by decide +kernel
theorem d_M_readNumber_25 : decode m_M_readNumber.2.1 25 = .ok (.getfield 281, 3) := by decide +kernel
theorem d_M_readNumber_28 : decode m_M_readNumber.2.1 28 = .ok (.iconst 1, 1) := by decide +kernel
theorem d_M_readNumber_29 : decode m_M_readNumber.2.1 29 = .ok (.iadd, 1) := by decide +kernel
theorem d_M_readNumber_30 : decode m_M_readNumber.2.1 30 = .ok (.goto 7, 3) := by decide +kernel
theorem d_M_readNumber_33 : decode m_M_readNumber.2.1 33 = .ok (.aload_n 0, 1) := by decide +kernel
theorem d_M_readNumber_34 : decode m_M_readNumber.2.1 34 = .ok (.getfield 281, 3) := by decide +kernel
theorem d_M_readNumber_37 : decode m_M_readNumber.2.1 37 = .ok (.istore_n 2, 1) := by decide +kernel
theorem d_M_readNumber_38 : decode m_M_readNumber.2.1 38 = .ok (.aload_n 0, 1) := by decide +kernel
theorem d_M_readNumber_39 : decode m_M_readNumber.2.1 39 = .ok (.iload_n 2, 1) := by decide +kernel
theorem d_M_readNumber_40 : decode m_M_readNumber.2.1 40 = .ok (.invokevirtual 284, 3) := by decide +kernel
theorem d_M_readNumber_43 : decode m_M_readNumber.2.1 43 = .ok (.istore_n 3, 1) := by decide +kernel
theorem d_M_readNumber_44 : decode m_M_readNumber.2.1 44 = .ok (.iload_n 3, 1) := by decide +kernel
theorem d_M_readNumber_45 : decode m_M_readNumber.2.1 45 = .ok (.iconst 1, 1) := by decide +kernel
theorem d_M_readNumber_46 : decode m_M_readNumber.2.1 46 = .ok (.if_icmp .lt 9, 3) := by decide +kernel
theorem d_M_readNumber_49 : decode m_M_readNumber.2.1 49 = .ok (.iload_n 3, 1) := by decide +kernel
theorem d_M_readNumber_50 : decode m_M_readNumber.2.1 50 = .ok (.bipush 9, 2) := by decide +kernel
theorem d_M_readNumber_52 : decode m_M_readNumber.2.1 52 = .ok (.if_icmp .le 6, 3) := by decide +kernel
theorem d_M_readNumber_55 : decode m_M_readNumber.2.1 55 = .ok (.bipush 15, 2) := by decide +kernel
theorem d_M_readNumber_57 : decode m_M_readNumber.2.1 57 = .ok (.ireturn, 1) := by decide +kernel
theorem d_M_readNumber_58 : decode m_M_readNumber.2.1 58 = .ok (.aload_n 0, 1) := by decide +kernel
theorem d_M_readNumber_59 : decode m_M_readNumber.2.1 59 = .ok (.iload_n 2, 1) := by decide +kernel
theorem d_M_readNumber_60 : decode m_M_readNumber.2.1 60 = .ok (.iload_n 3, 1) := by decide +kernel
theorem d_M_readNumber_61 : decode m_M_readNumber.2.1 61 = .ok (.invokevirtual 288, 3) := by decide +kernel
theorem d_M_readNumber_64 : decode m_M_readNumber.2.1 64 = .ok (.lstore 4, 2) := by decide +kernel
theorem d_M_readNumber_66 : decode m_M_readNumber.2.1 66 = .ok (.aload_n 0, 1) := by decide +kernel
theorem d_M_readNumber_67 : decode m_M_readNumber.2.1 67 = .ok (.iload_n 2, 1) := by decide +kernel
theorem d_M_readNumber_68 : decode m_M_readNumber.2.1 68 = .ok (.iload_n 3, 1) := by decide +kernel
theorem d_M_readNumber_69 : decode m_M_readNumber.2.1 69 = .ok (.iadd, 1) := by decide +kernel
theorem d_M_readNumber_70 : decode m_M_readNumber.2.1 70 = .ok (.putfield 281, 3) := by decide +kernel
theorem d_M_readNumber_73 : decode m_M_readNumber.2.1 73 = .ok (.aload_n 0, 1) := by decide +kernel
theorem d_M_readNumber_74 : decode m_M_readNumber.2.1 74 = .ok (.aload_n 0, 1) := by decide +kernel
theorem d_M_readNumber_75 : decode m_M_readNumber.2.1 75 = .ok (.getfield 281, 3) := by decide +kernel
theorem d_M_readNumber_78 : decode m_M_readNumber.2.1 78 = .ok (.invokevirtual 292, 3) := by decide +kernel
theorem d_M_readNumber_81 : decode m_M_readNumber.2.1 81 = .ok (.bipush 46, 2) := by decide +kernel
theorem d_M_readNumber_83 : decode m_M_readNumber.2.1 83 = .ok (.if_icmp .ne 16, 3) := by decide +kernel
theorem d_M_readNumber_86 : decode m_M_readNumber.2.1 86 = .ok (.aload_n 0, 1) := by decide +kernel
theorem d_M_readNumber_87 : decode m_M_readNumber.2.1 87 = .ok (.aload_n 0, 1) := by decide +kernel
theorem d_M_readNumber_88 : decode m_M_readNumber.2.1 88 = .ok (.getfield 281, 3) := by decide +kernel
theorem d_M_readNumber_91 : decode m_M_readNumber.2.1 91 = .ok (.iconst 1, 1) := by decide +kernel
theorem d_M_readNumber_92 : decode m_M_readNumber.2.1 92 = .ok (.iadd, 1) := by decide +kernel
theorem d_M_readNumber_93 : decode m_M_readNumber.2.1 93 = .ok (.invokevirtual 284, 3) := by decide +kernel
theorem d_M_readNumber_96 : decode m_M_readNumber.2.1 96 = .ok (.goto 4, 3) := by decide +kernel
theorem d_M_readNumber_99 : decode m_M_readNumber.2.1 99 = .ok (.iconst 0, 1) := by decide +kernel
theorem d_M_readNumber_100 : decode m_M_readNumber.2.1 100 = .ok (.istore 6, 2) := by decide +kernel
theorem d_M_readNumber_102 : decode m_M_readNumber.2.1 102 = .ok (.iload 6, 2) := by decide +kernel
theorem d_M_readNumber_104 : decode m_M_readNumber.2.1 104 = .ok (.iconst 4, 1) := by decide +kernel
theorem d_M_readNumber_105 : decode m_M_readNumber.2.1 105 = .ok (.if_icmp .le 6, 3) := by decide +kernel
theorem d_M_readNumber_108 : decode m_M_readNumber.2.1 108 = .ok (.bipush 15, 2) := by decide +kernel
theorem d_M_readNumber_110 : decode m_M_readNumber.2.1 110 = .ok (.ireturn, 1) := by decide +kernel
theorem d_M_readNumber_111 : decode m_M_readNumber.2.1 111 = .ok (.iload 6, 2) := by decide +kernel
theorem d_M_readNumber_113 : decode m_M_readNumber.2.1 113 = .ok (.ifCond .ne 24, 3) := by decide +kernel
theorem d_M_readNumber_116 : decode m_M_readNumber.2.1 116 = .ok (.aload_n 0, 1) := by decide +kernel
theorem d_M_readNumber_117 : decode m_M_readNumber.2.1 117 = .ok (.bipush 40, 2) := by decide +kernel
theorem d_M_readNumber_119 : decode m_M_readNumber.2.1 119 = .ok (.iconst 0, 1) := by decide +kernel
theorem d_M_readNumber_120 : decode m_M_readNumber.2.1 120 = .ok (.iload_n 1, 1) := by decide +kernel
theorem d_M_readNumber_121 : decode m_M_readNumber.2.1 121 = .ok (.ifCond .eq 9, 3) := by decide +kernel
theorem d_M_readNumber_124 : decode m_M_readNumber.2.1 124 = .ok (.lload 4, 2) := by decide +kernel
theorem d_M_readNumber_126 : decode m_M_readNumber.2.1 126 = .ok (.lneg, 1) := by decide +kernel
theorem d_M_readNumber_127 : decode m_M_readNumber.2.1 127 = .ok (.goto 5, 3) := by decide +kernel
theorem d_M_readNumber_130 : decode m_M_readNumber.2.1 130 = .ok (.lload 4, 2) := by decide +kernel
theorem d_M_readNumber_132 : decode m_M_readNumber.2.1 132 = .ok (.invokevirtual 250, 3) := by decide +kernel
theorem d_M_readNumber_135 : decode m_M_readNumber.2.1 135 = .ok (.iconst 0, 1) := by decide +kernel
theorem d_M_readNumber_136 : decode m_M_readNumber.2.1 136 = .ok (.ireturn, 1) := by decide +kernel
theorem d_M_readNumber_137 : decode m_M_readNumber.2.1 137 = .ok (.iload 6, 2) := by decide +kernel
theorem d_M_readNumber_139 : decode m_M_readNumber.2.1 139 = .ok (.iconst 1, 1) := by decide +kernel
theorem d_M_readNumber_140 : decode m_M_readNumber.2.1 140 = .ok (.if_icmp .ne 9, 3) := by decide +kernel
theorem d_M_readNumber_143 : decode m_M_readNumber.2.1 143 = .ok (.ldc2_w 296, 3) := by decide +kernel
theorem d_M_readNumber_146 : decode m_M_readNumber.2.1 146 = .ok (.goto 30, 3) := by decide +kernel
theorem d_M_readNumber_149 : decode m_M_readNumber.2.1 149 = .ok (.iload 6, 2) := by decide +kernel
theorem d_M_readNumber_151 : decode m_M_readNumber.2.1 151 = .ok (.iconst 2, 1) := by decide +kernel
theorem d_M_readNumber_152 : decode m_M_readNumber.2.1 152 = .ok (.if_icmp .ne 9, 3) := by decide +kernel
theorem d_M_readNumber_155 : decode m_M_readNumber.2.1 155 = .ok (.ldc2_w 298, 3) := by decide +kernel
theorem d_M_readNumber_158 : decode m_M_readNumber.2.1 158 = .ok (.goto 18, 3) := by decide +kernel
theorem d_M_readNumber_161 : decode m_M_readNumber.2.1 161 = .ok (.iload 6, 2) := by decide +kernel
theorem d_M_readNumber_163 : decode m_M_readNumber.2.1 163 = .ok (.iconst 3, 1) := by decide +kernel
theorem d_M_readNumber_164 : decode m_M_readNumber.2.1 164 = .ok (.if_icmp .ne 9, 3) := by decide +kernel
theorem d_M_readNumber_167 : decode m_M_readNumber.2.1 167 = .ok (.ldc2_w 300, 3) := by decide +kernel
theorem d_M_readNumber_170 : decode m_M_readNumber.2.1 170 = .ok (.goto 6, 3) := by decide +kernel
theorem d_M_readNumber_173 : decode m_M_readNumber.2.1 173 = .ok (.ldc2_w 302, 3) := by decide +kernel
theorem d_M_readNumber_176 : decode m_M_readNumber.2.1 176 = .ok (.dstore 7, 2) := by decide +kernel
theorem d_M_readNumber_178 : decode m_M_readNumber.2.1 178 = .ok (.lload 4, 2) := by decide +kernel
theorem d_M_readNumber_180 : decode m_M_readNumber.2.1 180 = .ok (.l2d, 1) := by decide +kernel
theorem d_M_readNumber_181 : decode m_M_readNumber.2.1 181 = .ok (.aload_n 0, 1) := by decide +kernel
theorem d_M_readNumber_182 : decode m_M_readNumber.2.1 182 = .ok (.aload_n 0, 1) := by decide +kernel
theorem d_M_readNumber_183 : decode m_M_readNumber.2.1 183 = .ok (.getfield 281, 3) := by decide +kernel
theorem d_M_readNumber_186 : decode m_M_readNumber.2.1 186 = .ok (.iconst 1, 1) := by decide +kernel
theorem d_M_readNumber_187 : decode m_M_readNumber.2.1 187 = .ok (.iadd, 1) := by decide +kernel
theorem d_M_readNumber_188 : decode m_M_readNumber.2.1 188 = .ok (.iload 6, 2) := by decide +kernel
theorem d_M_readNumber_190 : decode m_M_readNumber.2.1 190 = .ok (.invokevirtual 288, 3) := by decide +kernel
theorem d_M_readNumber_193 : decode m_M_readNumber.2.1 193 = .ok (.l2d, 1) := by decide +kernel
theorem d_M_readNumber_194 : decode m_M_readNumber.2.1 194 = .ok (.dload 7, 2) := by decide +kernel
theorem d_M_readNumber_196 : decode m_M_readNumber.2.1 196 = .ok (.ddiv, 1) := by decide +kernel
theorem d_M_readNumber_197 : decode m_M_readNumber.2.1 197 = .ok (.dadd, 1) := by decide +kernel
theorem d_M_readNumber_198 : decode m_M_readNumber.2.1 198 = .ok (.dstore 9, 2) := by decide +kernel
theorem d_M_readNumber_200 : decode m_M_readNumber.2.1 200 = .ok (.aload_n 0, 1) := by decide +kernel
theorem d_M_readNumber_201 : decode m_M_readNumber.2.1 201 = .ok (.bipush 40, 2) := by decide +kernel
theorem d_M_readNumber_203 : decode m_M_readNumber.2.1 203 = .ok (.iconst 1, 1) := by decide +kernel
theorem d_M_readNumber_204 : decode m_M_readNumber.2.1 204 = .ok (.lconst 0, 1) := by decide +kernel
theorem d_M_readNumber_205 : decode m_M_readNumber.2.1 205 = .ok (.invokevirtual 250, 3) := by decide +kernel
theorem d_M_readNumber_208 : decode m_M_readNumber.2.1 208 = .ok (.aload_n 0, 1) := by decide +kernel
theorem d_M_readNumber_209 : decode m_M_readNumber.2.1 209 = .ok (.getfield 17, 3) := by decide +kernel
theorem d_M_readNumber_212 : decode m_M_readNumber.2.1 212 = .ok (.bipush 40, 2) := by decide +kernel
theorem d_M_readNumber_214 : decode m_M_readNumber.2.1 214 = .ok (.iload_n 1, 1) := by decide +kernel
theorem d_M_readNumber_215 : decode m_M_readNumber.2.1 215 = .ok (.ifCond .eq 10, 3) := by decide +kernel
theorem d_M_readNumber_218 : decode m_M_readNumber.2.1 218 = .ok (.dconst 0, 1) := by decide +kernel
theorem d_M_readNumber_219 : decode m_M_readNumber.2.1 219 = .ok (.dload 9, 2) := by decide +kernel
theorem d_M_readNumber_221 : decode m_M_readNumber.2.1 221 = .ok (.dsub, 1) := by decide +kernel
theorem d_M_readNumber_222 : decode m_M_readNumber.2.1 222 = .ok (.goto 5, 3) := by decide +kernel
theorem d_M_readNumber_225 : decode m_M_readNumber.2.1 225 = .ok (.dload 9, 2) := by decide +kernel
theorem d_M_readNumber_227 : decode m_M_readNumber.2.1 227 = .ok (.dastore, 1) := by decide +kernel
theorem d_M_readNumber_228 : decode m_M_readNumber.2.1 228 = .ok (.aload_n 0, 1) := by decide +kernel
theorem d_M_readNumber_229 : decode m_M_readNumber.2.1 229 = .ok (.dup, 1) := by decide +kernel
theorem d_M_readNumber_230 : decode m_M_readNumber.2.1 230 = .ok (.getfield 281, 3) := by decide +kernel
theorem d_M_readNumber_233 : decode m_M_readNumber.2.1 233 = .ok (.iload 6, 2) := by decide +kernel
theorem d_M_readNumber_235 : decode m_M_readNumber.2.1 235 = .ok (.iconst 1, 1) := by decide +kernel
theorem d_M_readNumber_236 : decode m_M_readNumber.2.1 236 = .ok (.iadd, 1) := by decide +kernel
theorem d_M_readNumber_237 : decode m_M_readNumber.2.1 237 = .ok (.iadd, 1) := by decide +kernel
theorem d_M_readNumber_238 : decode m_M_readNumber.2.1 238 = .ok (.putfield 281, 3) := by decide +kernel
theorem d_M_readNumber_241 : decode m_M_readNumber.2.1 241 = .ok (.iconst 0, 1) := by decide +kernel
theorem d_M_readNumber_242 : decode m_M_readNumber.2.1 242 = .ok (.ireturn, 1) := by decide +kernel
theorem d_M_restore_0 : decode m_M_restore.2.1 0 = .ok (.iconst 0, 1) := by decide +kernel
theorem d_M_restore_1 : decode m_M_restore.2.1 1 = .ok (.istore_n 1, 1) := by decide +kernel
theorem d_M_restore_2 : decode m_M_restore.2.1 2 = .ok (.iload_n 1, 1) := by decide +kernel
theorem d_M_restore_3 : decode m_M_restore.2.1 3 = .ok (.aload_n 0, 1) := by decide +kernel
theorem d_M_restore_4 : decode m_M_restore.2.1 4 = .ok (.getfield 534, 3) := by decide +kernel
theorem d_M_restore_7 : decode m_M_restore.2.1 7 = .ok (.if_icmp .ge 31, 3) := by decide +kernel
theorem d_M_restore_10 : decode m_M_restore.2.1 10 = .ok (.aload_n 0, 1) := by decide +kernel
theorem d_M_restore_11 : decode m_M_restore.2.1 11 = .ok (.getfield 37, 3) := by decide +kernel
theorem d_M_restore_14 : decode m_M_restore.2.1 14 = .ok (.iload_n 1, 1) := by decide +kernel
theorem d_M_restore_15 : decode m_M_restore.2.1 15 = .ok (.iaload, 1) := by decide +kernel
theorem d_M_restore_16 : decode m_M_restore.2.1 16 = .ok (.i2l, 1) := by decide +kernel
theorem d_M_restore_17 : decode m_M_restore.2.1 17 = .ok (.aload_n 0, 1) := by decide +kernel
theorem d_M_restore_18 : decode m_M_restore.2.1 18 = .ok (.getfield 13, 3) := by decide +kernel
theorem d_M_restore_21 : decode m_M_restore.2.1 21 = .ok (.aload_n 0, 1) := by decide +kernel
theorem d_M_restore_22 : decode m_M_restore.2.1 22 = .ok (.getfield 247, 3) := by decide +kernel
theorem d_M_restore_25 : decode m_M_restore.2.1 25 = .ok (.iconst 1, 1) := by decide +kernel
theorem d_M_restore_26 : decode m_M_restore.2.1 26 = .ok (.isub, 1) := by decide +kernel
theorem d_M_restore_27 : decode m_M_restore.2.1 27 = .ok (.laload, 1) := by decide +kernel
theorem d_M_restore_28 : decode m_M_restore.2.1 28 = .ok (.lcmp, 1) := by decide +kernel
theorem d_M_restore_29 : decode m_M_restore.2.1 29 = .ok (.ifCond .eq 9, 3) := by decide +kernel
theorem d_M_restore_32 : decode m_M_restore.2.1 32 = .ok (.iinc 1 1, 3) := by decide +kernel
theorem d_M_restore_35 : decode m_M_restore.2.1 35 = .ok (.goto (-33), 3) := by decide +kernel
theorem d_M_restore_38 : decode m_M_restore.2.1 38 = .ok (.iload_n 1, 1) := by decide +kernel
theorem d_M_restore_39 : decode m_M_restore.2.1 39 = .ok (.aload_n 0, 1) := by decide +kernel
theorem d_M_restore_40 : decode m_M_restore.2.1 40 = .ok (.getfield 534, 3) := by decide +kernel
theorem d_M_restore_43 : decode m_M_restore.2.1 43 = .ok (.if_icmp .ne 6, 3) := by decide +kernel
theorem d_M_restore_46 : decode m_M_restore.2.1 46 = .ok (.bipush 10, 2) := by decide +kernel
theorem d_M_restore_48 : decode m_M_restore.2.1 48 = .ok (.ireturn, 1) := by decide +kernel
theorem d_M_restore_49 : decode m_M_restore.2.1 49 = .ok (.iconst 0, 1) := by decide +kernel
theorem d_M_restore_50 : decode m_M_restore.2.1 50 = .ok (.istore_n 2, 1) := by decide +kernel
theorem d_M_restore_51 : decode m_M_restore.2.1 51 = .ok (.iconst 0, 1) := by decide +kernel
theorem d_M_restore_52 : decode m_M_restore.2.1 52 = .ok (.istore_n 3, 1) := by decide +kernel
theorem d_M_restore_53 : decode m_M_restore.2.1 53 = .ok (.iload_n 3, 1) := by decide +kernel
theorem d_M_restore_54 : decode m_M_restore.2.1 54 = .ok (.aload_n 0, 1) := by decide +kernel
theorem d_M_restore_55 : decode m_M_restore.2.1 55 = .ok (.getfield 247, 3) := by decide +kernel
theorem d_M_restore_58 : decode m_M_restore.2.1 58 = .ok (.iconst 1, 1) := by decide +kernel
theorem d_M_restore_59 : decode m_M_restore.2.1 59 = .ok (.isub, 1) := by decide +kernel
theorem d_M_restore_60 : decode m_M_restore.2.1 60 = .ok (.if_icmp .ge 38, 3) := by decide +kernel
theorem d_M_restore_63 : decode m_M_restore.2.1 63 = .ok (.iload_n 2, 1) := by decide +kernel
theorem d_M_restore_64 : decode m_M_restore.2.1 64 = .ok (.ifCond .ne 22, 3) := by decide +kernel
theorem d_M_restore_67 : decode m_M_restore.2.1 67 = .ok (.aload_n 0, 1) := by decide +kernel
theorem d_M_restore_68 : decode m_M_restore.2.1 68 = .ok (.aload_n 0, 1) := by decide +kernel
theorem d_M_restore_69 : decode m_M_restore.2.1 69 = .ok (.iload_n 3, 1) := by decide +kernel
theorem d_M_restore_70 : decode m_M_restore.2.1 70 = .ok (.invokevirtual 421, 3) := by decide +kernel
theorem d_M_restore_73 : decode m_M_restore.2.1 73 = .ok (.aload_n 0, 1) := by decide +kernel
theorem d_M_restore_74 : decode m_M_restore.2.1 74 = .ok (.getfield 13, 3) := by decide +kernel
theorem d_M_restore_77 : decode m_M_restore.2.1 77 = .ok (.iload_n 3, 1) := by decide +kernel
theorem d_M_restore_78 : decode m_M_restore.2.1 78 = .ok (.laload, 1) := by decide +kernel
theorem d_M_restore_79 : decode m_M_restore.2.1 79 = .ok (.iload_n 1, 1) := by decide +kernel
theorem d_M_restore_80 : decode m_M_restore.2.1 80 = .ok (.invokevirtual 543, 3) := by decide +kernel
theorem d_M_restore_83 : decode m_M_restore.2.1 83 = .ok (.ifCond .eq 7, 3) := by decide +kernel
theorem d_M_restore_86 : decode m_M_restore.2.1 86 = .ok (.iconst 1, 1) := by decide +kernel
theorem d_M_restore_87 : decode m_M_restore.2.1 87 = .ok (.goto 4, 3) := by decide +kernel
theorem d_M_restore_90 : decode m_M_restore.2.1 90 = .ok (.iconst 0, 1) := by decide +kernel
theorem d_M_restore_91 : decode m_M_restore.2.1 91 = .ok (.istore_n 2, 1) := by decide +kernel
theorem d_M_restore_92 : decode m_M_restore.2.1 92 = .ok (.iinc 3 1, 3) := by decide +kernel
theorem d_M_restore_95 : decode m_M_restore.2.1 95 = .ok (.goto (-42), 3) := by decide +kernel
theorem d_M_restore_98 : decode m_M_restore.2.1 98 = .ok (.iconst 0, 1) := by decide +kernel
theorem d_M_restore_99 : decode m_M_restore.2.1 99 = .ok (.istore_n 3, 1) := by decide +kernel
theorem d_M_restore_100 : decode m_M_restore.2.1 100 = .ok (.iload_n 3, 1) := by decide +kernel
theorem d_M_restore_101 : decode m_M_restore.2.1 101 = .ok (.aload_n 0, 1) := by decide +kernel
theorem d_M_restore_102 : decode m_M_restore.2.1 102 = .ok (.getfield 33, 3) := by decide +kernel
theorem d_M_restore_105 : decode m_M_restore.2.1 105 = .ok (.if_icmp .ge 36, 3) := by decide +kernel
theorem d_M_restore_108 : decode m_M_restore.2.1 108 = .ok (.iload_n 2, 1) := by decide +kernel
theorem d_M_restore_109 : decode m_M_restore.2.1 109 = .ok (.ifCond .ne 20, 3) := by decide +kernel
theorem d_M_restore_112 : decode m_M_restore.2.1 112 = .ok (.aload_n 0, 1) := by decide +kernel
theorem d_M_restore_113 : decode m_M_restore.2.1 113 = .ok (.bipush 6, 2) := by decide +kernel
theorem d_M_restore_115 : decode m_M_restore.2.1 115 = .ok (.aload_n 0, 1) := by decide +kernel
theorem d_M_restore_116 : decode m_M_restore.2.1 116 = .ok (.getfield 30, 3) := by decide +kernel
theorem d_M_restore_119 : decode m_M_restore.2.1 119 = .ok (.iload_n 3, 1) := by decide +kernel
theorem d_M_restore_120 : decode m_M_restore.2.1 120 = .ok (.iaload, 1) := by decide +kernel
theorem d_M_restore_121 : decode m_M_restore.2.1 121 = .ok (.i2l, 1) := by decide +kernel
theorem d_M_restore_122 : decode m_M_restore.2.1 122 = .ok (.iload_n 1, 1) := by decide +kernel
theorem d_M_restore_123 : decode m_M_restore.2.1 123 = .ok (.invokevirtual 543, 3) := by decide +kernel
theorem d_M_restore_126 : decode m_M_restore.2.1 126 = .ok (.ifCond .eq 7, 3) := by decide +kernel
theorem d_M_restore_129 : decode m_M_restore.2.1 129 = .ok (.iconst 1, 1) := by decide +kernel
theorem d_M_restore_130 : decode m_M_restore.2.1 130 = .ok (.goto 4, 3) := by decide +kernel
theorem d_M_restore_133 : decode m_M_restore.2.1 133 = .ok (.iconst 0, 1) := by decide +kernel
theorem d_M_restore_134 : decode m_M_restore.2.1 134 = .ok (.istore_n 2, 1) := by decide +kernel
theorem d_M_restore_135 : decode m_M_restore.2.1 135 = .ok (.iinc 3 1, 3) := by decide +kernel
theorem d_M_restore_138 : decode m_M_restore.2.1 138 = .ok (.goto (-38), 3) := by decide +kernel
theorem d_M_restore_141 : decode m_M_restore.2.1 141 = .ok (.iconst 0, 1) := by decide +kernel
theorem d_M_restore_142 : decode m_M_restore.2.1 142 = .ok (.istore_n 3, 1) := by decide +kernel
theorem d_M_restore_143 : decode m_M_restore.2.1 143 = .ok (.iload_n 3, 1) := by decide +kernel
theorem d_M_restore_144 : decode m_M_restore.2.1 144 = .ok (.aload_n 0, 1) := by decide +kernel
theorem d_M_restore_145 : decode m_M_restore.2.1 145 = .ok (.getfield 346, 3) := by decide +kernel
theorem d_M_restore_148 : decode m_M_restore.2.1 148 = .ok (.if_icmp .ge 70, 3) := by decide +kernel
theorem d_M_restore_151 : decode m_M_restore.2.1 151 = .ok (.iload_n 2, 1) := by decide +kernel
theorem d_M_restore_152 : decode m_M_restore.2.1 152 = .ok (.ifCond .ne 54, 3) := by decide +kernel
theorem d_M_restore_155 : decode m_M_restore.2.1 155 = .ok (.aload_n 0, 1) := by decide +kernel
theorem d_M_restore_156 : decode m_M_restore.2.1 156 = .ok (.getfield 43, 3) := by decide +kernel
theorem d_M_restore_159 : decode m_M_restore.2.1 159 = .ok (.iload_n 3, 1) := by decide +kernel
theorem d_M_restore_160 : decode m_M_restore.2.1 160 = .ok (.iaload, 1) := by decide +kernel
theorem d_M_restore_161 : decode m_M_restore.2.1 161 = .ok (.iconst 1, 1) := by decide +kernel
theorem d_M_restore_162 : decode m_M_restore.2.1 162 = .ok (.if_icmp .ne 18, 3) := by decide +kernel
theorem d_M_restore_165 : decode m_M_restore.2.1 165 = .ok (.aload_n 0, 1) := by decide +kernel
theorem d_M_restore_166 : decode m_M_restore.2.1 166 = .ok (.iconst 5, 1) := by decide +kernel
theorem d_M_restore_167 : decode m_M_restore.2.1 167 = .ok (.aload_n 0, 1) := by decide +kernel
theorem d_M_restore_168 : decode m_M_restore.2.1 168 = .ok (.getfield 46, 3) := by decide +kernel
theorem d_M_restore_171 : decode m_M_restore.2.1 171 = .ok (.iload_n 3, 1) := by decide +kernel
theorem d_M_restore_172 : decode m_M_restore.2.1 172 = .ok (.laload, 1) := by decide +kernel
theorem d_M_restore_173 : decode m_M_restore.2.1 173 = .ok (.iload_n 1, 1) := by decide +kernel
theorem d_M_restore_174 : decode m_M_restore.2.1 174 = .ok (.invokevirtual 543, 3) := by decide +kernel
theorem d_M_restore_177 : decode m_M_restore.2.1 177 = .ok (.ifCond .ne 29, 3) := by decide +kernel
theorem d_M_restore_180 : decode m_M_restore.2.1 180 = .ok (.aload_n 0, 1) := by decide +kernel
theorem d_M_restore_181 : decode m_M_restore.2.1 181 = .ok (.getfield 43, 3) := by decide +kernel
theorem d_M_restore_184 : decode m_M_restore.2.1 184 = .ok (.iload_n 3, 1) := by decide +kernel
theorem d_M_restore_185 : decode m_M_restore.2.1 185 = .ok (.iaload, 1) := by decide +kernel
theorem d_M_restore_186 : decode m_M_restore.2.1 186 = .ok (.bipush 6, 2) := by decide +kernel
theorem d_M_restore_188 : decode m_M_restore.2.1 188 = .ok (.if_icmp .ne 22, 3) := by decide +kernel
theorem d_M_restore_191 : decode m_M_restore.2.1 191 = .ok (.aload_n 0, 1) := by decide +kernel
theorem d_M_restore_192 : decode m_M_restore.2.1 192 = .ok (.iconst 5, 1) := by decide +kernel
theorem d_M_restore_193 : decode m_M_restore.2.1 193 = .ok (.aload_n 0, 1) := by decide +kernel
theorem d_M_restore_194 : decode m_M_restore.2.1 194 = .ok (.getfield 58, 3) := by decide +kernel
theorem d_M_restore_197 : decode m_M_restore.2.1 197 = .ok (.iload_n 3, 1) := by decide +kernel
theorem d_M_restore_198 : decode m_M_restore.2.1 198 = .ok (.laload, 1) := by decide +kernel
theorem d_M_restore_199 : decode m_M_restore.2.1 199 = .ok (.iload_n 1, 1) := by decide +kernel
theorem d_M_restore_200 : decode m_M_restore.2.1 200 = .ok (.invokevirtual 543, 3) := by decide +kernel
theorem d_M_restore_203 : decode m_M_restore.2.1 203 = .ok (.ifCond .eq 7, 3) := by decide +kernel
theorem d_M_restore_206 : decode m_M_restore.2.1 206 = .ok (.iconst 1, 1) := by decide +kernel
theorem d_M_restore_207 : decode m_M_restore.2.1 207 = .ok (.goto 4, 3) := by decide +kernel
theorem d_M_restore_210 : decode m_M_restore.2.1 210 = .ok (.iconst 0, 1) := by decide +kernel
theorem d_M_restore_211 : decode m_M_restore.2.1 211 = .ok (.istore_n 2, 1) := by decide +kernel
theorem d_M_restore_212 : decode m_M_restore.2.1 212 = .ok (.iinc 3 1, 3) := by decide +kernel
theorem d_M_restore_215 : decode m_M_restore.2.1 215 = .ok (.goto (-72), 3) := by decide +kernel
theorem d_M_restore_218 : decode m_M_restore.2.1 218 = .ok (.iload_n 2, 1) := by decide +kernel
theorem d_M_restore_219 : decode m_M_restore.2.1 219 = .ok (.ifCond .eq 6, 3) := by decide +kernel
theorem d_M_restore_222 : decode m_M_restore.2.1 222 = .ok (.bipush 10, 2) := by decide +kernel
theorem d_M_restore_224 : decode m_M_restore.2.1 224 = .ok (.ireturn, 1) := by decide +kernel
theorem d_M_restore_225 : decode m_M_restore.2.1 225 = .ok (.aload_n 0, 1) := by decide +kernel
theorem d_M_restore_226 : decode m_M_restore.2.1 226 = .ok (.dup, 1) := by decide +kernel
theorem d_M_restore_227 : decode m_M_restore.2.1 227 = .ok (.getfield 247, 3) := by decide +kernel
theorem d_M_restore_230 : decode m_M_restore.2.1 230 = .ok (.iconst 1, 1) := by decide +kernel
theorem d_M_restore_231 : decode m_M_restore.2.1 231 = .ok (.isub, 1) := by decide +kernel
theorem d_M_restore_232 : decode m_M_restore.2.1 232 = .ok (.putfield 247, 3) := by decide +kernel
theorem d_M_restore_235 : decode m_M_restore.2.1 235 = .ok (.aload_n 0, 1) := by decide +kernel
theorem d_M_restore_236 : decode m_M_restore.2.1 236 = .ok (.iload_n 1, 1) := by decide +kernel
theorem d_M_restore_237 : decode m_M_restore.2.1 237 = .ok (.putfield 534, 3) := by decide +kernel
theorem d_M_restore_240 : decode m_M_restore.2.1 240 = .ok (.aload_n 0, 1) := by decide +kernel
theorem d_M_restore_241 : decode m_M_restore.2.1 241 = .ok (.aload_n 0, 1) := by decide +kernel
theorem d_M_restore_242 : decode m_M_restore.2.1 242 = .ok (.getfield 40, 3) := by decide +kernel
theorem d_M_restore_245 : decode m_M_restore.2.1 245 = .ok (.iload_n 1, 1) := by decide +kernel
theorem d_M_restore_246 : decode m_M_restore.2.1 246 = .ok (.iaload, 1) := by decide +kernel
theorem d_M_restore_247 : decode m_M_restore.2.1 247 = .ok (.putfield 325, 3) := by decide +kernel
theorem d_M_restore_250 : decode m_M_restore.2.1 250 = .ok (.aload_n 0, 1) := by decide +kernel
theorem d_M_restore_251 : decode m_M_restore.2.1 251 = .ok (.iconst 0, 1) := by decide +kernel
theorem d_M_restore_252 : decode m_M_restore.2.1 252 = .ok (.iload_n 1, 1) := by decide +kernel
theorem d_M_restore_253 : decode m_M_restore.2.1 253 = .ok (.iconst 1, 1) := by decide +kernel
theorem d_M_restore_254 : decode m_M_restore.2.1 254 = .ok (.iadd, 1) := by decide +kernel
theorem d_M_restore_255 : decode m_M_restore.2.1 255 = .ok (.invokevirtual 540, 3) := by decide +kernel
theorem d_M_restore_258 : decode m_M_restore.2.1 258 = .ok (.iconst 0, 1) := by decide +kernel
theorem d_M_restore_259 : decode m_M_restore.2.1 259 = .ok (.ireturn, 1) := by decide +kernel
theorem d_M_save_0 : decode m_M_save.2.1 0 = .ok (.aload_n 0, 1) := by decide +kernel
theorem d_M_save_1 : decode m_M_save.2.1 1 = .ok (.getfield 534, 3) := by decide +kernel
theorem d_M_save_4 : decode m_M_save.2.1 4 = .ok (.iconst 3, 1) := by decide +kernel
theorem d_M_save_5 : decode m_M_save.2.1 5 = .ok (.if_icmp .ne 6, 3) := by decide +kernel
theorem d_M_save_8 : decode m_M_save.2.1 8 = .ok (.bipush 7, 2) := by decide +kernel
theorem d_M_save_10 : decode m_M_save.2.1 10 = .ok (.ireturn, 1) := by decide +kernel
theorem d_M_save_11 : decode m_M_save.2.1 11 = .ok (.aload_n 0, 1) := by decide +kernel
theorem d_M_save_12 : decode m_M_save.2.1 12 = .ok (.getfield 247, 3) := by decide +kernel
theorem d_M_save_15 : decode m_M_save.2.1 15 = .ok (.bipush 40, 2) := by decide +kernel
theorem d_M_save_17 : decode m_M_save.2.1 17 = .ok (.if_icmp .ne 5, 3) := by decide +kernel
theorem d_M_save_20 : decode m_M_save.2.1 20 = .ok (.iconst 2, 1) := by decide +kernel
theorem d_M_save_21 : decode m_M_save.2.1 21 = .ok (.ireturn, 1) := by decide +kernel
theorem d_M_save_22 : decode m_M_save.2.1 22 = .ok (.aload_n 0, 1) := by decide +kernel
theorem d_M_save_23 : decode m_M_save.2.1 23 = .ok (.dup, 1) := by decide +kernel
theorem d_M_save_24 : decode m_M_save.2.1 24 = .ok (.getfield 537, 3) := by decide +kernel
theorem d_M_save_27 : decode m_M_save.2.1 27 = .ok (.iconst 1, 1) := by decide +kernel
theorem d_M_save_28 : decode m_M_save.2.1 28 = .ok (.iadd, 1) := by decide +kernel
theorem d_M_save_29 : decode m_M_save.2.1 29 = .ok (.putfield 537, 3) := by decide +kernel
theorem d_M_save_32 : decode m_M_save.2.1 32 = .ok (.aload_n 0, 1) := by decide +kernel
theorem d_M_save_33 : decode m_M_save.2.1 33 = .ok (.getfield 37, 3) := by decide +kernel
theorem d_M_save_36 : decode m_M_save.2.1 36 = .ok (.aload_n 0, 1) := by decide +kernel
theorem d_M_save_37 : decode m_M_save.2.1 37 = .ok (.getfield 534, 3) := by decide +kernel
theorem d_M_save_40 : decode m_M_save.2.1 40 = .ok (.aload_n 0, 1) := by decide +kernel
theorem d_M_save_41 : decode m_M_save.2.1 41 = .ok (.getfield 537, 3) := by decide +kernel
theorem d_M_save_44 : decode m_M_save.2.1 44 = .ok (.iastore, 1) := by decide +kernel
theorem d_M_save_45 : decode m_M_save.2.1 45 = .ok (.aload_n 0, 1) := by decide +kernel
theorem d_M_save_46 : decode m_M_save.2.1 46 = .ok (.getfield 40, 3) := by decide +kernel
theorem d_M_save_49 : decode m_M_save.2.1 49 = .ok (.aload_n 0, 1) := by decide +kernel
theorem d_M_save_50 : decode m_M_save.2.1 50 = .ok (.getfield 534, 3) := by decide +kernel
theorem d_M_save_53 : decode m_M_save.2.1 53 = .ok (.aload_n 0, 1) := by decide +kernel
theorem d_M_save_54 : decode m_M_save.2.1 54 = .ok (.getfield 325, 3) := by decide +kernel
theorem d_M_save_57 : decode m_M_save.2.1 57 = .ok (.iastore, 1) := by decide +kernel
theorem d_M_save_58 : decode m_M_save.2.1 58 = .ok (.aload_n 0, 1) := by decide +kernel
theorem d_M_save_59 : decode m_M_save.2.1 59 = .ok (.dup, 1) := by decide +kernel
theorem d_M_save_60 : decode m_M_save.2.1 60 = .ok (.getfield 534, 3) := by decide +kernel
theorem d_M_save_63 : decode m_M_save.2.1 63 = .ok (.iconst 1, 1) := by decide +kernel
theorem d_M_save_64 : decode m_M_save.2.1 64 = .ok (.iadd, 1) := by decide +kernel
theorem d_M_save_65 : decode m_M_save.2.1 65 = .ok (.putfield 534, 3) := by decide +kernel
theorem d_M_save_68 : decode m_M_save.2.1 68 = .ok (.aload_n 0, 1) := by decide +kernel
theorem d_M_save_69 : decode m_M_save.2.1 69 = .ok (.aload_n 0, 1) := by decide +kernel
theorem d_M_save_70 : decode m_M_save.2.1 70 = .ok (.getfield 534, 3) := by decide +kernel
theorem d_M_save_73 : decode m_M_save.2.1 73 = .ok (.iconst 0, 1) := by decide +kernel
theorem d_M_save_74 : decode m_M_save.2.1 74 = .ok (.invokevirtual 540, 3) := by decide +kernel
theorem d_M_save_77 : decode m_M_save.2.1 77 = .ok (.aload_n 0, 1) := by decide +kernel
theorem d_M_save_78 : decode m_M_save.2.1 78 = .ok (.bipush 7, 2) := by decide +kernel
theorem d_M_save_80 : decode m_M_save.2.1 80 = .ok (.aload_n 0, 1) := by decide +kernel
theorem d_M_save_81 : decode m_M_save.2.1 81 = .ok (.getfield 537, 3) := by decide +kernel
theorem d_M_save_84 : decode m_M_save.2.1 84 = .ok (.i2l, 1) := by decide +kernel
theorem d_M_save_85 : decode m_M_save.2.1 85 = .ok (.invokevirtual 388, 3) := by decide +kernel
theorem d_M_save_88 : decode m_M_save.2.1 88 = .ok (.ireturn, 1) := by decide +kernel
theorem d_M_toMark_0 : decode m_M_toMark.2.1 0 = .ok (.aload_n 0, 1) := by decide +kernel
theorem d_M_toMark_1 : decode m_M_toMark.2.1 1 = .ok (.invokevirtual 470, 3) := by decide +kernel
theorem d_M_toMark_4 : decode m_M_toMark.2.1 4 = .ok (.istore_n 2, 1) := by decide +kernel
theorem d_M_toMark_5 : decode m_M_toMark.2.1 5 = .ok (.iload_n 2, 1) := by decide +kernel
theorem d_M_toMark_6 : decode m_M_toMark.2.1 6 = .ok (.ifCond .ge 6, 3) := by decide +kernel
theorem d_M_toMark_9 : decode m_M_toMark.2.1 9 = .ok (.bipush 9, 2) := by decide +kernel
theorem d_M_toMark_11 : decode m_M_toMark.2.1 11 = .ok (.ireturn, 1) := by decide +kernel
theorem d_M_toMark_12 : decode m_M_toMark.2.1 12 = .ok (.iload_n 1, 1) := by decide +kernel
theorem d_M_toMark_13 : decode m_M_toMark.2.1 13 = .ok (.bipush 71, 2) := by decide +kernel
theorem d_M_toMark_15 : decode m_M_toMark.2.1 15 = .ok (.if_icmp .ne 36, 3) := by decide +kernel
theorem d_M_toMark_18 : decode m_M_toMark.2.1 18 = .ok (.aload_n 0, 1) := by decide +kernel
theorem d_M_toMark_19 : decode m_M_toMark.2.1 19 = .ok (.iload_n 2, 1) := by decide +kernel
theorem d_M_toMark_20 : decode m_M_toMark.2.1 20 = .ok (.iconst 1, 1) := by decide +kernel
theorem d_M_toMark_21 : decode m_M_toMark.2.1 21 = .ok (.iadd, 1) := by decide +kernel
theorem d_M_toMark_22 : decode m_M_toMark.2.1 22 = .ok (.aload_n 0, 1) := by decide +kernel
theorem d_M_toMark_23 : decode m_M_toMark.2.1 23 = .ok (.getfield 247, 3) := by decide +kernel
theorem d_M_toMark_26 : decode m_M_toMark.2.1 26 = .ok (.iconst 1, 1) := by decide +kernel
theorem d_M_toMark_27 : decode m_M_toMark.2.1 27 = .ok (.isub, 1) := by decide +kernel
theorem d_M_toMark_28 : decode m_M_toMark.2.1 28 = .ok (.iload_n 2, 1) := by decide +kernel
theorem d_M_toMark_29 : decode m_M_toMark.2.1 29 = .ok (.isub, 1) := by decide +kernel
theorem d_M_toMark_30 : decode m_M_toMark.2.1 30 = .ok (.iconst 5, 1) := by decide +kernel
theorem d_M_toMark_31 : decode m_M_toMark.2.1 31 = .ok (.invokevirtual 336, 3) := by decide +kernel
theorem d_M_toMark_34 : decode m_M_toMark.2.1 34 = .ok (.istore_n 3, 1) := by decide +kernel
theorem d_M_toMark_35 : decode m_M_toMark.2.1 35 = .ok (.iload_n 3, 1) := by decide +kernel
theorem d_M_toMark_36 : decode m_M_toMark.2.1 36 = .ok (.ifCond .eq 5, 3) := by decide +kernel
theorem d_M_toMark_39 : decode m_M_toMark.2.1 39 = .ok (.iload_n 3, 1) := by decide +kernel
theorem d_M_toMark_40 : decode m_M_toMark.2.1 40 = .ok (.ireturn, 1) := by decide +kernel
theorem d_M_toMark_41 : decode m_M_toMark.2.1 41 = .ok (.aload_n 0, 1) := by decide +kernel
theorem d_M_toMark_42 : decode m_M_toMark.2.1 42 = .ok (.iload_n 2, 1) := by decide +kernel
theorem d_M_toMark_43 : decode m_M_toMark.2.1 43 = .ok (.bipush 40, 2) := by decide +kernel
theorem d_M_toMark_45 : decode m_M_toMark.2.1 45 = .ok (.invokevirtual 254, 3) := by decide +kernel
theorem d_M_toMark_48 : decode m_M_toMark.2.1 48 = .ok (.iinc 2 1, 3) := by decide +kernel
theorem d_M_toMark_51 : decode m_M_toMark.2.1 51 = .ok (.aload_n 0, 1) := by decide +kernel
theorem d_M_toMark_52 : decode m_M_toMark.2.1 52 = .ok (.iload_n 2, 1) := by decide +kernel
theorem d_M_toMark_53 : decode m_M_toMark.2.1 53 = .ok (.putfield 247, 3) := by decide +kernel
theorem d_M_toMark_56 : decode m_M_toMark.2.1 56 = .ok (.iconst 0, 1) := by decide +kernel
theorem d_M_toMark_57 : decode m_M_toMark.2.1 57 = .ok (.ireturn, 1) := by decide +kernel
theorem d_M_zeros_0 : decode m_M_zeros.2.1 0 = .ok (.lload_n 1, 1) := by decide +kernel
theorem d_M_zeros_1 : decode m_M_zeros.2.1 1 = .ok (.lconst 0, 1) := by decide +kernel
theorem d_M_zeros_2 : decode m_M_zeros.2.1 2 = .ok (.lcmp, 1) := by decide +kernel
theorem d_M_zeros_3 : decode m_M_zeros.2.1 3 = .ok (.ifCond .ge 5, 3) := by decide +kernel
theorem d_M_zeros_6 : decode m_M_zeros.2.1 6 = .ok (.iconst 4, 1) := by decide +kernel
theorem d_M_zeros_7 : decode m_M_zeros.2.1 7 = .ok (.ireturn, 1) := by decide +kernel
theorem d_M_zeros_8 : decode m_M_zeros.2.1 8 = .ok (.lload_n 1, 1) := by decide +kernel
theorem d_M_zeros_9 : decode m_M_zeros.2.1 9 = .ok (.sipush 160, 3) := by decide +kernel
theorem d_M_zeros_12 : decode m_M_zeros.2.1 12 = .ok (.aload_n 0, 1) := by decide +kernel
theorem d_M_zeros_13 : decode m_M_zeros.2.1 13 = .ok (.getfield 325, 3) := by decide +kernel
theorem d_M_zeros_16 : decode m_M_zeros.2.1 16 = .ok (.isub, 1) := by decide +kernel
theorem d_M_zeros_17 : decode m_M_zeros.2.1 17 = .ok (.i2l, 1) := by decide +kernel
theorem d_M_zeros_18 : decode m_M_zeros.2.1 18 = .ok (.lcmp, 1) := by decide +kernel
theorem d_M_zeros_19 : decode m_M_zeros.2.1 19 = .ok (.ifCond .le 6, 3) := by decide +kernel
theorem d_M_zeros_22 : decode m_M_zeros.2.1 22 = .ok (.bipush 7, 2) := by decide +kernel
theorem d_M_zeros_24 : decode m_M_zeros.2.1 24 = .ok (.ireturn, 1) := by decide +kernel
theorem d_M_zeros_25 : decode m_M_zeros.2.1 25 = .ok (.iconst 0, 1) := by decide +kernel
theorem d_M_zeros_26 : decode m_M_zeros.2.1 26 = .ok (.istore_n 3, 1) := by decide +kernel
theorem d_M_zeros_27 : decode m_M_zeros.2.1 27 = .ok (.iload_n 3, 1) := by decide +kernel
theorem d_M_zeros_28 : decode m_M_zeros.2.1 28 = .ok (.i2l, 1) := by decide +kernel
theorem d_M_zeros_29 : decode m_M_zeros.2.1 29 = .ok (.lload_n 1, 1) := by decide +kernel
theorem d_M_zeros_30 : decode m_M_zeros.2.1 30 = .ok (.lcmp, 1) := by decide +kernel
theorem d_M_zeros_31 : decode m_M_zeros.2.1 31 = .ok (.ifCond .ge 24, 3) := by decide +kernel
theorem d_M_zeros_34 : decode m_M_zeros.2.1 34 = .ok (.aload_n 0, 1) := by decide +kernel
theorem d_M_zeros_35 : decode m_M_zeros.2.1 35 = .ok (.bipush 50, 2) := by decide +kernel
theorem d_M_zeros_37 : decode m_M_zeros.2.1 37 = .ok (.aload_n 0, 1) := by decide +kernel
theorem d_M_zeros_38 : decode m_M_zeros.2.1 38 = .ok (.getfield 325, 3) := by decide +kernel
theorem d_M_zeros_41 : decode m_M_zeros.2.1 41 = .ok (.iadd, 1) := by decide +kernel
theorem d_M_zeros_42 : decode m_M_zeros.2.1 42 = .ok (.iload_n 3, 1) := by decide +kernel
theorem d_M_zeros_43 : decode m_M_zeros.2.1 43 = .ok (.iadd, 1) := by decide +kernel
theorem d_M_zeros_44 : decode m_M_zeros.2.1 44 = .ok (.iconst 0, 1) := by decide +kernel
theorem d_M_zeros_45 : decode m_M_zeros.2.1 45 = .ok (.lconst 0, 1) := by decide +kernel
theorem d_M_zeros_46 : decode m_M_zeros.2.1 46 = .ok (.invokevirtual 250, 3) := by decide +kernel
theorem d_M_zeros_49 : decode m_M_zeros.2.1 49 = .ok (.iinc 3 1, 3) := by decide +kernel
theorem d_M_zeros_52 : decode m_M_zeros.2.1 52 = .ok (.goto (-25), 3) := by decide +kernel
theorem d_M_zeros_55 : decode m_M_zeros.2.1 55 = .ok (.aload_n 0, 1) := by decide +kernel
theorem d_M_zeros_56 : decode m_M_zeros.2.1 56 = .ok (.iconst 1, 1) := by decide +kernel
theorem d_M_zeros_57 : decode m_M_zeros.2.1 57 = .ok (.iconst 5, 1) := by decide +kernel
theorem d_M_zeros_58 : decode m_M_zeros.2.1 58 = .ok (.aload_n 0, 1) := by decide +kernel
theorem d_M_zeros_59 : decode m_M_zeros.2.1 59 = .ok (.getfield 325, 3) := by decide +kernel
theorem d_M_zeros_62 : decode m_M_zeros.2.1 62 = .ok (.i2l, 1) := by decide +kernel
theorem d_M_zeros_63 : decode m_M_zeros.2.1 63 = .ok (.ldc2_w 328, 3) := by decide +kernel
theorem d_M_zeros_66 : decode m_M_zeros.2.1 66 = .ok (.lload_n 1, 1) := by decide +kernel
theorem d_M_zeros_67 : decode m_M_zeros.2.1 67 = .ok (.lmul, 1) := by decide +kernel
theorem d_M_zeros_68 : decode m_M_zeros.2.1 68 = .ok (.ladd, 1) := by decide +kernel
theorem d_M_zeros_69 : decode m_M_zeros.2.1 69 = .ok (.invokevirtual 262, 3) := by decide +kernel
theorem d_M_zeros_72 : decode m_M_zeros.2.1 72 = .ok (.pop, 1) := by decide +kernel
theorem d_M_zeros_73 : decode m_M_zeros.2.1 73 = .ok (.aload_n 0, 1) := by decide +kernel
theorem d_M_zeros_74 : decode m_M_zeros.2.1 74 = .ok (.dup, 1) := by decide +kernel
theorem d_M_zeros_75 : decode m_M_zeros.2.1 75 = .ok (.getfield 325, 3) := by decide +kernel
theorem d_M_zeros_78 : decode m_M_zeros.2.1 78 = .ok (.lload_n 1, 1) := by decide +kernel
theorem d_M_zeros_79 : decode m_M_zeros.2.1 79 = .ok (.l2i, 1) := by decide +kernel
theorem d_M_zeros_80 : decode m_M_zeros.2.1 80 = .ok (.iadd, 1) := by decide +kernel
theorem d_M_zeros_81 : decode m_M_zeros.2.1 81 = .ok (.putfield 325, 3) := by decide +kernel
theorem d_M_zeros_84 : decode m_M_zeros.2.1 84 = .ok (.iconst 0, 1) := by decide +kernel
theorem d_M_zeros_85 : decode m_M_zeros.2.1 85 = .ok (.ireturn, 1) := by decide +kernel
theorem d_M_arrayOperator_0 : decode m_M_arrayOperator.2.1 0 = .ok (.aload_n 0, 1) := by decide +kernel
theorem d_M_arrayOperator_1 : decode m_M_arrayOperator.2.1 1 = .ok (.getfield 247, 3) := by decide +kernel
theorem d_M_arrayOperator_4 : decode m_M_arrayOperator.2.1 4 = .ok (.iconst 1, 1) := by decide +kernel
theorem d_M_arrayOperator_5 : decode m_M_arrayOperator.2.1 5 = .ok (.isub, 1) := by decide +kernel
theorem d_M_arrayOperator_6 : decode m_M_arrayOperator.2.1 6 = .ok (.istore_n 2, 1) := by decide +kernel
theorem d_M_arrayOperator_7 : decode m_M_arrayOperator.2.1 7 = .ok (.iload_n 1, 1) := by decide +kernel
theorem d_M_arrayOperator_8 : decode m_M_arrayOperator.2.1 8 = .ok (.tableswitch 165 37 41 #[36, 47, 89, 95, 138], 36) := by decide +kernel
theorem d_M_arrayOperator_44 : decode m_M_arrayOperator.2.1 44 = .ok (.aload_n 0, 1) := by decide +kernel
theorem d_M_arrayOperator_45 : decode m_M_arrayOperator.2.1 45 = .ok (.aload_n 0, 1) := by decide +kernel
theorem d_M_arrayOperator_46 : decode m_M_arrayOperator.2.1 46 = .ok (.getfield 13, 3) := by decide +kernel
theorem d_M_arrayOperator_49 : decode m_M_arrayOperator.2.1 49 = .ok (.iload_n 2, 1) := by decide +kernel
theorem d_M_arrayOperator_50 : decode m_M_arrayOperator.2.1 50 = .ok (.laload, 1) := by decide +kernel
theorem d_M_arrayOperator_51 : decode m_M_arrayOperator.2.1 51 = .ok (.invokevirtual 497, 3) := by decide +kernel
theorem d_M_arrayOperator_54 : decode m_M_arrayOperator.2.1 54 = .ok (.ireturn, 1) := by decide +kernel
theorem d_M_arrayOperator_55 : decode m_M_arrayOperator.2.1 55 = .ok (.aload_n 0, 1) := by decide +kernel
theorem d_M_arrayOperator_56 : decode m_M_arrayOperator.2.1 56 = .ok (.iconst 1, 1) := by decide +kernel
theorem d_M_arrayOperator_57 : decode m_M_arrayOperator.2.1 57 = .ok (.iconst 0, 1) := by decide +kernel
theorem d_M_arrayOperator_58 : decode m_M_arrayOperator.2.1 58 = .ok (.aload_n 0, 1) := by decide +kernel
theorem d_M_arrayOperator_59 : decode m_M_arrayOperator.2.1 59 = .ok (.iload_n 2, 1) := by decide +kernel
theorem d_M_arrayOperator_60 : decode m_M_arrayOperator.2.1 60 = .ok (.invokevirtual 421, 3) := by decide +kernel
theorem d_M_arrayOperator_63 : decode m_M_arrayOperator.2.1 63 = .ok (.iconst 5, 1) := by decide +kernel
theorem d_M_arrayOperator_64 : decode m_M_arrayOperator.2.1 64 = .ok (.if_icmp .ne 16, 3) := by decide +kernel
theorem d_M_arrayOperator_67 : decode m_M_arrayOperator.2.1 67 = .ok (.aload_n 0, 1) := by decide +kernel
theorem d_M_arrayOperator_68 : decode m_M_arrayOperator.2.1 68 = .ok (.getfield 13, 3) := by decide +kernel
theorem d_M_arrayOperator_71 : decode m_M_arrayOperator.2.1 71 = .ok (.iload_n 2, 1) := by decide +kernel
theorem d_M_arrayOperator_72 : decode m_M_arrayOperator.2.1 72 = .ok (.laload, 1) := by decide +kernel
theorem d_M_arrayOperator_73 : decode m_M_arrayOperator.2.1 73 = .ok (.invokestatic 391, 3) := by decide +kernel
theorem d_M_arrayOperator_76 : decode m_M_arrayOperator.2.1 76 = .ok (.i2l, 1) := by decide +kernel
theorem d_M_arrayOperator_77 : decode m_M_arrayOperator.2.1 77 = .ok (.goto 16, 3) := by decide +kernel
theorem d_M_arrayOperator_80 : decode m_M_arrayOperator.2.1 80 = .ok (.aload_n 0, 1) := by decide +kernel
theorem d_M_arrayOperator_81 : decode m_M_arrayOperator.2.1 81 = .ok (.getfield 24, 3) := by decide +kernel
theorem d_M_arrayOperator_84 : decode m_M_arrayOperator.2.1 84 = .ok (.aload_n 0, 1) := by decide +kernel
theorem d_M_arrayOperator_85 : decode m_M_arrayOperator.2.1 85 = .ok (.getfield 13, 3) := by decide +kernel
theorem d_M_arrayOperator_88 : decode m_M_arrayOperator.2.1 88 = .ok (.iload_n 2, 1) := by decide +kernel
theorem d_M_arrayOperator_89 : decode m_M_arrayOperator.2.1 89 = .ok (.laload, 1) := by decide +kernel
theorem d_M_arrayOperator_90 : decode m_M_arrayOperator.2.1 90 = .ok (.l2i, 1) := by decide +kernel
theorem d_M_arrayOperator_91 : decode m_M_arrayOperator.2.1 91 = .ok (.iaload, 1) := by decide +kernel
theorem d_M_arrayOperator_92 : decode m_M_arrayOperator.2.1 92 = .ok (.i2l, 1) := by decide +kernel
theorem d_M_arrayOperator_93 : decode m_M_arrayOperator.2.1 93 = .ok (.invokevirtual 262, 3) := by decide +kernel
theorem d_M_arrayOperator_96 : decode m_M_arrayOperator.2.1 96 = .ok (.ireturn, 1) := by decide +kernel
theorem d_M_arrayOperator_97 : decode m_M_arrayOperator.2.1 97 = .ok (.aload_n 0, 1) := by decide +kernel
theorem d_M_arrayOperator_98 : decode m_M_arrayOperator.2.1 98 = .ok (.iload_n 2, 1) := by decide +kernel
theorem d_M_arrayOperator_99 : decode m_M_arrayOperator.2.1 99 = .ok (.invokevirtual 500, 3) := by decide +kernel
theorem d_M_arrayOperator_102 : decode m_M_arrayOperator.2.1 102 = .ok (.ireturn, 1) := by decide +kernel
theorem d_M_arrayOperator_103 : decode m_M_arrayOperator.2.1 103 = .ok (.aload_n 0, 1) := by decide +kernel
theorem d_M_arrayOperator_104 : decode m_M_arrayOperator.2.1 104 = .ok (.iload_n 2, 1) := by decide +kernel
theorem d_M_arrayOperator_105 : decode m_M_arrayOperator.2.1 105 = .ok (.iconst 2, 1) := by decide +kernel
theorem d_M_arrayOperator_106 : decode m_M_arrayOperator.2.1 106 = .ok (.isub, 1) := by decide +kernel
theorem d_M_arrayOperator_107 : decode m_M_arrayOperator.2.1 107 = .ok (.invokevirtual 421, 3) := by decide +kernel
theorem d_M_arrayOperator_110 : decode m_M_arrayOperator.2.1 110 = .ok (.bipush 6, 2) := by decide +kernel
theorem d_M_arrayOperator_112 : decode m_M_arrayOperator.2.1 112 = .ok (.if_icmp .ne 28, 3) := by decide +kernel
theorem d_M_arrayOperator_115 : decode m_M_arrayOperator.2.1 115 = .ok (.aload_n 0, 1) := by decide +kernel
theorem d_M_arrayOperator_116 : decode m_M_arrayOperator.2.1 116 = .ok (.aload_n 0, 1) := by decide +kernel
theorem d_M_arrayOperator_117 : decode m_M_arrayOperator.2.1 117 = .ok (.getfield 13, 3) := by decide +kernel
theorem d_M_arrayOperator_120 : decode m_M_arrayOperator.2.1 120 = .ok (.iload_n 2, 1) := by decide +kernel
theorem d_M_arrayOperator_121 : decode m_M_arrayOperator.2.1 121 = .ok (.iconst 2, 1) := by decide +kernel
theorem d_M_arrayOperator_122 : decode m_M_arrayOperator.2.1 122 = .ok (.isub, 1) := by decide +kernel
theorem d_M_arrayOperator_123 : decode m_M_arrayOperator.2.1 123 = .ok (.laload, 1) := by decide +kernel
theorem d_M_arrayOperator_124 : decode m_M_arrayOperator.2.1 124 = .ok (.l2i, 1) := by decide +kernel
theorem d_M_arrayOperator_125 : decode m_M_arrayOperator.2.1 125 = .ok (.aload_n 0, 1) := by decide +kernel
theorem d_M_arrayOperator_126 : decode m_M_arrayOperator.2.1 126 = .ok (.getfield 13, 3) := by decide +kernel
theorem d_M_arrayOperator_129 : decode m_M_arrayOperator.2.1 129 = .ok (.iload_n 2, 1) := by decide +kernel
theorem d_M_arrayOperator_130 : decode m_M_arrayOperator.2.1 130 = .ok (.iconst 1, 1) := by decide +kernel
theorem d_M_arrayOperator_131 : decode m_M_arrayOperator.2.1 131 = .ok (.isub, 1) := by decide +kernel
theorem d_M_arrayOperator_132 : decode m_M_arrayOperator.2.1 132 = .ok (.laload, 1) := by decide +kernel
theorem d_M_arrayOperator_133 : decode m_M_arrayOperator.2.1 133 = .ok (.iconst 3, 1) := by decide +kernel
theorem d_M_arrayOperator_134 : decode m_M_arrayOperator.2.1 134 = .ok (.invokevirtual 503, 3) := by decide +kernel
theorem d_M_arrayOperator_137 : decode m_M_arrayOperator.2.1 137 = .ok (.goto 8, 3) := by decide +kernel
theorem d_M_arrayOperator_140 : decode m_M_arrayOperator.2.1 140 = .ok (.aload_n 0, 1) := by decide +kernel
theorem d_M_arrayOperator_141 : decode m_M_arrayOperator.2.1 141 = .ok (.iload_n 2, 1) := by decide +kernel
theorem d_M_arrayOperator_142 : decode m_M_arrayOperator.2.1 142 = .ok (.invokevirtual 507, 3) := by decide +kernel
theorem d_M_arrayOperator_145 : decode m_M_arrayOperator.2.1 145 = .ok (.ireturn, 1) := by decide +kernel
theorem d_M_arrayOperator_146 : decode m_M_arrayOperator.2.1 146 = .ok (.aload_n 0, 1) := by decide +kernel
theorem d_M_arrayOperator_147 : decode m_M_arrayOperator.2.1 147 = .ok (.aload_n 0, 1) := by decide +kernel
theorem d_M_arrayOperator_148 : decode m_M_arrayOperator.2.1 148 = .ok (.getfield 13, 3) := by decide +kernel
theorem d_M_arrayOperator_151 : decode m_M_arrayOperator.2.1 151 = .ok (.iload_n 2, 1) := by decide +kernel
theorem d_M_arrayOperator_152 : decode m_M_arrayOperator.2.1 152 = .ok (.iconst 2, 1) := by decide +kernel
theorem d_M_arrayOperator_153 : decode m_M_arrayOperator.2.1 153 = .ok (.isub, 1) := by decide +kernel
theorem d_M_arrayOperator_154 : decode m_M_arrayOperator.2.1 154 = .ok (.laload, 1) := by decide +kernel
theorem d_M_arrayOperator_155 : decode m_M_arrayOperator.2.1 155 = .ok (.aload_n 0, 1) := by decide +kernel
theorem d_M_arrayOperator_156 : decode m_M_arrayOperator.2.1 156 = .ok (.getfield 13, 3) := by decide +kernel
theorem d_M_arrayOperator_159 : decode m_M_arrayOperator.2.1 159 = .ok (.iload_n 2, 1) := by decide +kernel
theorem d_M_arrayOperator_160 : decode m_M_arrayOperator.2.1 160 = .ok (.iconst 1, 1) := by decide +kernel
theorem d_M_arrayOperator_161 : decode m_M_arrayOperator.2.1 161 = .ok (.isub, 1) := by decide +kernel
theorem d_M_arrayOperator_162 : decode m_M_arrayOperator.2.1 162 = .ok (.laload, 1) := by decide +kernel
theorem d_M_arrayOperator_163 : decode m_M_arrayOperator.2.1 163 = .ok (.aload_n 0, 1) := by decide +kernel
theorem d_M_arrayOperator_164 : decode m_M_arrayOperator.2.1 164 = .ok (.getfield 13, 3) := by decide +kernel
theorem d_M_arrayOperator_167 : decode m_M_arrayOperator.2.1 167 = .ok (.iload_n 2, 1) := by decide +kernel
theorem d_M_arrayOperator_168 : decode m_M_arrayOperator.2.1 168 = .ok (.laload, 1) := by decide +kernel
theorem d_M_arrayOperator_169 : decode m_M_arrayOperator.2.1 169 = .ok (.invokevirtual 510, 3) := by decide +kernel
theorem d_M_arrayOperator_172 : decode m_M_arrayOperator.2.1 172 = .ok (.ireturn, 1) := by decide +kernel
theorem d_M_arrayOperator_173 : decode m_M_arrayOperator.2.1 173 = .ok (.aload_n 0, 1) := by decide +kernel
theorem d_M_arrayOperator_174 : decode m_M_arrayOperator.2.1 174 = .ok (.aload_n 0, 1) := by decide +kernel
theorem d_M_arrayOperator_175 : decode m_M_arrayOperator.2.1 175 = .ok (.getfield 13, 3) := by decide +kernel
theorem d_M_arrayOperator_178 : decode m_M_arrayOperator.2.1 178 = .ok (.iload_n 2, 1) := by decide +kernel
theorem d_M_arrayOperator_179 : decode m_M_arrayOperator.2.1 179 = .ok (.laload, 1) := by decide +kernel
theorem d_M_arrayOperator_180 : decode m_M_arrayOperator.2.1 180 = .ok (.invokevirtual 513, 3) := by decide +kernel
theorem d_M_arrayOperator_183 : decode m_M_arrayOperator.2.1 183 = .ok (.ireturn, 1) := by decide +kernel
theorem d_M_control_0 : decode m_M_control.2.1 0 = .ok (.iload_n 1, 1) := by decide +kernel
theorem d_M_control_1 : decode m_M_control.2.1 1 = .ok (.tableswitch 114 57 61 #[35, 40, 43, 98, 109], 35) := by decide +kernel
theorem d_M_control_36 : decode m_M_control.2.1 36 = .ok (.aload_n 0, 1) := by decide +kernel
theorem d_M_control_37 : decode m_M_control.2.1 37 = .ok (.invokevirtual 525, 3) := by decide +kernel
theorem d_M_control_40 : decode m_M_control.2.1 40 = .ok (.ireturn, 1) := by decide +kernel
theorem d_M_control_41 : decode m_M_control.2.1 41 = .ok (.bipush 14, 2) := by decide +kernel
theorem d_M_control_43 : decode m_M_control.2.1 43 = .ok (.ireturn, 1) := by decide +kernel
theorem d_M_control_44 : decode m_M_control.2.1 44 = .ok (.aload_n 0, 1) := by decide +kernel
theorem d_M_control_45 : decode m_M_control.2.1 45 = .ok (.dup, 1) := by decide +kernel
theorem d_M_control_46 : decode m_M_control.2.1 46 = .ok (.getfield 247, 3) := by decide +kernel
theorem d_M_control_49 : decode m_M_control.2.1 49 = .ok (.iconst 1, 1) := by decide +kernel
theorem d_M_control_50 : decode m_M_control.2.1 50 = .ok (.isub, 1) := by decide +kernel
theorem d_M_control_51 : decode m_M_control.2.1 51 = .ok (.putfield 247, 3) := by decide +kernel
theorem d_M_control_54 : decode m_M_control.2.1 54 = .ok (.aload_n 0, 1) := by decide +kernel
theorem d_M_control_55 : decode m_M_control.2.1 55 = .ok (.bipush 40, 2) := by decide +kernel
theorem d_M_control_57 : decode m_M_control.2.1 57 = .ok (.aload_n 0, 1) := by decide +kernel
theorem d_M_control_58 : decode m_M_control.2.1 58 = .ok (.getfield 247, 3) := by decide +kernel
theorem d_M_control_61 : decode m_M_control.2.1 61 = .ok (.invokevirtual 254, 3) := by decide +kernel
theorem d_M_control_64 : decode m_M_control.2.1 64 = .ok (.aload_n 0, 1) := by decide +kernel
theorem d_M_control_65 : decode m_M_control.2.1 65 = .ok (.bipush 7, 2) := by decide +kernel
theorem d_M_control_67 : decode m_M_control.2.1 67 = .ok (.lconst 0, 1) := by decide +kernel
theorem d_M_control_68 : decode m_M_control.2.1 68 = .ok (.invokevirtual 352, 3) := by decide +kernel
theorem d_M_control_71 : decode m_M_control.2.1 71 = .ok (.aload_n 0, 1) := by decide +kernel
theorem d_M_control_72 : decode m_M_control.2.1 72 = .ok (.bipush 40, 2) := by decide +kernel
theorem d_M_control_74 : decode m_M_control.2.1 74 = .ok (.invokevirtual 378, 3) := by decide +kernel
theorem d_M_control_77 : decode m_M_control.2.1 77 = .ok (.ifCond .eq 17, 3) := by decide +kernel
theorem d_M_control_80 : decode m_M_control.2.1 80 = .ok (.aload_n 0, 1) := by decide +kernel
theorem d_M_control_81 : decode m_M_control.2.1 81 = .ok (.aload_n 0, 1) := by decide +kernel
theorem d_M_control_82 : decode m_M_control.2.1 82 = .ok (.getfield 13, 3) := by decide +kernel
theorem d_M_control_85 : decode m_M_control.2.1 85 = .ok (.bipush 40, 2) := by decide +kernel
theorem d_M_control_87 : decode m_M_control.2.1 87 = .ok (.laload, 1) := by decide +kernel
theorem d_M_control_88 : decode m_M_control.2.1 88 = .ok (.invokevirtual 382, 3) := by decide +kernel
theorem d_M_control_91 : decode m_M_control.2.1 91 = .ok (.goto 7, 3) := by decide +kernel
theorem d_M_control_94 : decode m_M_control.2.1 94 = .ok (.aload_n 0, 1) := by decide +kernel
theorem d_M_control_95 : decode m_M_control.2.1 95 = .ok (.invokevirtual 522, 3) := by decide +kernel
theorem d_M_control_98 : decode m_M_control.2.1 98 = .ok (.ireturn, 1) := by decide +kernel
theorem d_M_control_99 : decode m_M_control.2.1 99 = .ok (.aload_n 0, 1) := by decide +kernel
theorem d_M_control_100 : decode m_M_control.2.1 100 = .ok (.iconst 0, 1) := by decide +kernel
theorem d_M_control_101 : decode m_M_control.2.1 101 = .ok (.aload_n 0, 1) := by decide +kernel
theorem d_M_control_102 : decode m_M_control.2.1 102 = .ok (.getfield 402, 3) := by decide +kernel
theorem d_M_control_105 : decode m_M_control.2.1 105 = .ok (.i2l, 1) := by decide +kernel
theorem d_M_control_106 : decode m_M_control.2.1 106 = .ok (.invokevirtual 388, 3) := by decide +kernel
theorem d_M_control_109 : decode m_M_control.2.1 109 = .ok (.ireturn, 1) := by decide +kernel
theorem d_M_control_110 : decode m_M_control.2.1 110 = .ok (.aload_n 0, 1) := by decide +kernel
theorem d_M_control_111 : decode m_M_control.2.1 111 = .ok (.invokevirtual 528, 3) := by decide +kernel
theorem d_M_control_114 : decode m_M_control.2.1 114 = .ok (.ireturn, 1) := by decide +kernel
theorem d_M_control_115 : decode m_M_control.2.1 115 = .ok (.aload_n 0, 1) := by decide +kernel
theorem d_M_control_116 : decode m_M_control.2.1 116 = .ok (.invokevirtual 531, 3) := by decide +kernel
theorem d_M_control_119 : decode m_M_control.2.1 119 = .ok (.ireturn, 1) := by decide +kernel
theorem d_M_dictOperator_0 : decode m_M_dictOperator.2.1 0 = .ok (.aload_n 0, 1) := by decide +kernel
theorem d_M_dictOperator_1 : decode m_M_dictOperator.2.1 1 = .ok (.getfield 247, 3) := by decide +kernel
theorem d_M_dictOperator_4 : decode m_M_dictOperator.2.1 4 = .ok (.iconst 1, 1) := by decide +kernel
theorem d_M_dictOperator_5 : decode m_M_dictOperator.2.1 5 = .ok (.isub, 1) := by decide +kernel
theorem d_M_dictOperator_6 : decode m_M_dictOperator.2.1 6 = .ok (.istore_n 2, 1) := by decide +kernel
theorem d_M_dictOperator_7 : decode m_M_dictOperator.2.1 7 = .ok (.iload_n 1, 1) := by decide +kernel
theorem d_M_dictOperator_8 : decode m_M_dictOperator.2.1 8 = .ok (.tableswitch 210 43 48 #[40, 51, 101, 124, 149, 175], 40) := by decide +kernel
theorem d_M_dictOperator_48 : decode m_M_dictOperator.2.1 48 = .ok (.aload_n 0, 1) := by decide +kernel
theorem d_M_dictOperator_49 : decode m_M_dictOperator.2.1 49 = .ok (.aload_n 0, 1) := by decide +kernel
theorem d_M_dictOperator_50 : decode m_M_dictOperator.2.1 50 = .ok (.getfield 13, 3) := by decide +kernel
theorem d_M_dictOperator_53 : decode m_M_dictOperator.2.1 53 = .ok (.iload_n 2, 1) := by decide +kernel
theorem d_M_dictOperator_54 : decode m_M_dictOperator.2.1 54 = .ok (.laload, 1) := by decide +kernel
theorem d_M_dictOperator_55 : decode m_M_dictOperator.2.1 55 = .ok (.invokevirtual 519, 3) := by decide +kernel
theorem d_M_dictOperator_58 : decode m_M_dictOperator.2.1 58 = .ok (.ireturn, 1) := by decide +kernel
theorem d_M_dictOperator_59 : decode m_M_dictOperator.2.1 59 = .ok (.aload_n 0, 1) := by decide +kernel
theorem d_M_dictOperator_60 : decode m_M_dictOperator.2.1 60 = .ok (.getfield 33, 3) := by decide +kernel
theorem d_M_dictOperator_63 : decode m_M_dictOperator.2.1 63 = .ok (.bipush 6, 2) := by decide +kernel
theorem d_M_dictOperator_65 : decode m_M_dictOperator.2.1 65 = .ok (.if_icmp .ne 6, 3) := by decide +kernel
theorem d_M_dictOperator_68 : decode m_M_dictOperator.2.1 68 = .ok (.bipush 7, 2) := by decide +kernel
theorem d_M_dictOperator_70 : decode m_M_dictOperator.2.1 70 = .ok (.ireturn, 1) := by decide +kernel
theorem d_M_dictOperator_71 : decode m_M_dictOperator.2.1 71 = .ok (.aload_n 0, 1) := by decide +kernel
theorem d_M_dictOperator_72 : decode m_M_dictOperator.2.1 72 = .ok (.getfield 30, 3) := by decide +kernel
theorem d_M_dictOperator_75 : decode m_M_dictOperator.2.1 75 = .ok (.aload_n 0, 1) := by decide +kernel
theorem d_M_dictOperator_76 : decode m_M_dictOperator.2.1 76 = .ok (.getfield 33, 3) := by decide +kernel
theorem d_M_dictOperator_79 : decode m_M_dictOperator.2.1 79 = .ok (.aload_n 0, 1) := by decide +kernel
theorem d_M_dictOperator_80 : decode m_M_dictOperator.2.1 80 = .ok (.getfield 13, 3) := by decide +kernel
theorem d_M_dictOperator_83 : decode m_M_dictOperator.2.1 83 = .ok (.iload_n 2, 1) := by decide +kernel
theorem d_M_dictOperator_84 : decode m_M_dictOperator.2.1 84 = .ok (.laload, 1) := by decide +kernel
theorem d_M_dictOperator_85 : decode m_M_dictOperator.2.1 85 = .ok (.l2i, 1) := by decide +kernel
theorem d_M_dictOperator_86 : decode m_M_dictOperator.2.1 86 = .ok (.iastore, 1) := by decide +kernel
theorem d_M_dictOperator_87 : decode m_M_dictOperator.2.1 87 = .ok (.aload_n 0, 1) := by decide +kernel
theorem d_M_dictOperator_88 : decode m_M_dictOperator.2.1 88 = .ok (.dup, 1) := by decide +kernel
theorem d_M_dictOperator_89 : decode m_M_dictOperator.2.1 89 = .ok (.getfield 33, 3) := by decide +kernel
theorem d_M_dictOperator_92 : decode m_M_dictOperator.2.1 92 = .ok (.iconst 1, 1) := by decide +kernel
theorem d_M_dictOperator_93 : decode m_M_dictOperator.2.1 93 = .ok (.iadd, 1) := by decide +kernel
theorem d_M_dictOperator_94 : decode m_M_dictOperator.2.1 94 = .ok (.putfield 33, 3) := by decide +kernel
theorem d_M_dictOperator_97 : decode m_M_dictOperator.2.1 97 = .ok (.aload_n 0, 1) := by decide +kernel
theorem d_M_dictOperator_98 : decode m_M_dictOperator.2.1 98 = .ok (.dup, 1) := by decide +kernel
theorem d_M_dictOperator_99 : decode m_M_dictOperator.2.1 99 = .ok (.getfield 247, 3) := by decide +kernel
theorem d_M_dictOperator_102 : decode m_M_dictOperator.2.1 102 = .ok (.iconst 1, 1) := by decide +kernel
theorem d_M_dictOperator_103 : decode m_M_dictOperator.2.1 103 = .ok (.isub, 1) := by decide +kernel
theorem d_M_dictOperator_104 : decode m_M_dictOperator.2.1 104 = .ok (.putfield 247, 3) := by decide +kernel
theorem d_M_dictOperator_107 : decode m_M_dictOperator.2.1 107 = .ok (.iconst 0, 1) := by decide +kernel
theorem d_M_dictOperator_108 : decode m_M_dictOperator.2.1 108 = .ok (.ireturn, 1) := by decide +kernel
theorem d_M_dictOperator_109 : decode m_M_dictOperator.2.1 109 = .ok (.aload_n 0, 1) := by decide +kernel
theorem d_M_dictOperator_110 : decode m_M_dictOperator.2.1 110 = .ok (.getfield 33, 3) := by decide +kernel
theorem d_M_dictOperator_113 : decode m_M_dictOperator.2.1 113 = .ok (.iconst 1, 1) := by decide +kernel
theorem d_M_dictOperator_114 : decode m_M_dictOperator.2.1 114 = .ok (.if_icmp .ne 6, 3) := by decide +kernel
theorem d_M_dictOperator_117 : decode m_M_dictOperator.2.1 117 = .ok (.bipush 9, 2) := by decide +kernel
theorem d_M_dictOperator_119 : decode m_M_dictOperator.2.1 119 = .ok (.ireturn, 1) := by decide +kernel
theorem d_M_dictOperator_120 : decode m_M_dictOperator.2.1 120 = .ok (.aload_n 0, 1) := by decide +kernel
theorem d_M_dictOperator_121 : decode m_M_dictOperator.2.1 121 = .ok (.dup, 1) := by decide +kernel
theorem d_M_dictOperator_122 : decode m_M_dictOperator.2.1 122 = .ok (.getfield 33, 3) := by decide +kernel
theorem d_M_dictOperator_125 : decode m_M_dictOperator.2.1 125 = .ok (.iconst 1, 1) := by decide +kernel
theorem d_M_dictOperator_126 : decode m_M_dictOperator.2.1 126 = .ok (.isub, 1) := by decide +kernel
theorem d_M_dictOperator_127 : decode m_M_dictOperator.2.1 127 = .ok (.putfield 33, 3) := by decide +kernel
theorem d_M_dictOperator_130 : decode m_M_dictOperator.2.1 130 = .ok (.iconst 0, 1) := by decide +kernel
theorem d_M_dictOperator_131 : decode m_M_dictOperator.2.1 131 = .ok (.ireturn, 1) := by decide +kernel
theorem d_M_dictOperator_132 : decode m_M_dictOperator.2.1 132 = .ok (.aload_n 0, 1) := by decide +kernel
theorem d_M_dictOperator_133 : decode m_M_dictOperator.2.1 133 = .ok (.aload_n 0, 1) := by decide +kernel
theorem d_M_dictOperator_134 : decode m_M_dictOperator.2.1 134 = .ok (.getfield 30, 3) := by decide +kernel
theorem d_M_dictOperator_137 : decode m_M_dictOperator.2.1 137 = .ok (.aload_n 0, 1) := by decide +kernel
theorem d_M_dictOperator_138 : decode m_M_dictOperator.2.1 138 = .ok (.getfield 33, 3) := by decide +kernel
theorem d_M_dictOperator_141 : decode m_M_dictOperator.2.1 141 = .ok (.iconst 1, 1) := by decide +kernel
theorem d_M_dictOperator_142 : decode m_M_dictOperator.2.1 142 = .ok (.isub, 1) := by decide +kernel
theorem d_M_dictOperator_143 : decode m_M_dictOperator.2.1 143 = .ok (.iaload, 1) := by decide +kernel
theorem d_M_dictOperator_144 : decode m_M_dictOperator.2.1 144 = .ok (.aload_n 0, 1) := by decide +kernel
theorem d_M_dictOperator_145 : decode m_M_dictOperator.2.1 145 = .ok (.getfield 13, 3) := by decide +kernel
theorem d_M_dictOperator_148 : decode m_M_dictOperator.2.1 148 = .ok (.iload_n 2, 1) := by decide +kernel
theorem d_M_dictOperator_149 : decode m_M_dictOperator.2.1 149 = .ok (.iconst 1, 1) := by decide +kernel
theorem d_M_dictOperator_150 : decode m_M_dictOperator.2.1 150 = .ok (.isub, 1) := by decide +kernel
theorem d_M_dictOperator_151 : decode m_M_dictOperator.2.1 151 = .ok (.laload, 1) := by decide +kernel
theorem d_M_dictOperator_152 : decode m_M_dictOperator.2.1 152 = .ok (.iconst 2, 1) := by decide +kernel
theorem d_M_dictOperator_153 : decode m_M_dictOperator.2.1 153 = .ok (.invokevirtual 503, 3) := by decide +kernel
theorem d_M_dictOperator_156 : decode m_M_dictOperator.2.1 156 = .ok (.ireturn, 1) := by decide +kernel
theorem d_M_dictOperator_157 : decode m_M_dictOperator.2.1 157 = .ok (.aload_n 0, 1) := by decide +kernel
theorem d_M_dictOperator_158 : decode m_M_dictOperator.2.1 158 = .ok (.aload_n 0, 1) := by decide +kernel
theorem d_M_dictOperator_159 : decode m_M_dictOperator.2.1 159 = .ok (.getfield 13, 3) := by decide +kernel
theorem d_M_dictOperator_162 : decode m_M_dictOperator.2.1 162 = .ok (.iload_n 2, 1) := by decide +kernel
theorem d_M_dictOperator_163 : decode m_M_dictOperator.2.1 163 = .ok (.laload, 1) := by decide +kernel
theorem d_M_dictOperator_164 : decode m_M_dictOperator.2.1 164 = .ok (.invokevirtual 372, 3) := by decide +kernel
theorem d_M_dictOperator_167 : decode m_M_dictOperator.2.1 167 = .ok (.istore_n 3, 1) := by decide +kernel
theorem d_M_dictOperator_168 : decode m_M_dictOperator.2.1 168 = .ok (.iload_n 3, 1) := by decide +kernel
theorem d_M_dictOperator_169 : decode m_M_dictOperator.2.1 169 = .ok (.iconst (-1), 1) := by decide +kernel
theorem d_M_dictOperator_170 : decode m_M_dictOperator.2.1 170 = .ok (.if_icmp .ne 5, 3) := by decide +kernel
theorem d_M_dictOperator_173 : decode m_M_dictOperator.2.1 173 = .ok (.iconst 5, 1) := by decide +kernel
theorem d_M_dictOperator_174 : decode m_M_dictOperator.2.1 174 = .ok (.ireturn, 1) := by decide +kernel
theorem d_M_dictOperator_175 : decode m_M_dictOperator.2.1 175 = .ok (.aload_n 0, 1) := by decide +kernel
theorem d_M_dictOperator_176 : decode m_M_dictOperator.2.1 176 = .ok (.iload_n 2, 1) := by decide +kernel
theorem d_M_dictOperator_177 : decode m_M_dictOperator.2.1 177 = .ok (.iload_n 3, 1) := by decide +kernel
theorem d_M_dictOperator_178 : decode m_M_dictOperator.2.1 178 = .ok (.invokevirtual 254, 3) := by decide +kernel
theorem d_M_dictOperator_181 : decode m_M_dictOperator.2.1 181 = .ok (.iconst 0, 1) := by decide +kernel
theorem d_M_dictOperator_182 : decode m_M_dictOperator.2.1 182 = .ok (.ireturn, 1) := by decide +kernel
theorem d_M_dictOperator_183 : decode m_M_dictOperator.2.1 183 = .ok (.aload_n 0, 1) := by decide +kernel
theorem d_M_dictOperator_184 : decode m_M_dictOperator.2.1 184 = .ok (.iconst 2, 1) := by decide +kernel
theorem d_M_dictOperator_185 : decode m_M_dictOperator.2.1 185 = .ok (.iconst 2, 1) := by decide +kernel
theorem d_M_dictOperator_186 : decode m_M_dictOperator.2.1 186 = .ok (.aload_n 0, 1) := by decide +kernel
theorem d_M_dictOperator_187 : decode m_M_dictOperator.2.1 187 = .ok (.aload_n 0, 1) := by decide +kernel
theorem d_M_dictOperator_188 : decode m_M_dictOperator.2.1 188 = .ok (.getfield 13, 3) := by decide +kernel
theorem d_M_dictOperator_191 : decode m_M_dictOperator.2.1 191 = .ok (.iload_n 2, 1) := by decide +kernel
theorem d_M_dictOperator_192 : decode m_M_dictOperator.2.1 192 = .ok (.iconst 1, 1) := by decide +kernel
theorem d_M_dictOperator_193 : decode m_M_dictOperator.2.1 193 = .ok (.isub, 1) := by decide +kernel
theorem d_M_dictOperator_194 : decode m_M_dictOperator.2.1 194 = .ok (.laload, 1) := by decide +kernel
theorem d_M_dictOperator_195 : decode m_M_dictOperator.2.1 195 = .ok (.l2i, 1) := by decide +kernel
theorem d_M_dictOperator_196 : decode m_M_dictOperator.2.1 196 = .ok (.aload_n 0, 1) := by decide +kernel
theorem d_M_dictOperator_197 : decode m_M_dictOperator.2.1 197 = .ok (.getfield 13, 3) := by decide +kernel
theorem d_M_dictOperator_200 : decode m_M_dictOperator.2.1 200 = .ok (.iload_n 2, 1) := by decide +kernel
theorem d_M_dictOperator_201 : decode m_M_dictOperator.2.1 201 = .ok (.laload, 1) := by decide +kernel
theorem d_M_dictOperator_202 : decode m_M_dictOperator.2.1 202 = .ok (.invokevirtual 362, 3) := by decide +kernel
theorem d_M_dictOperator_205 : decode m_M_dictOperator.2.1 205 = .ok (.iconst (-1), 1) := by decide +kernel
theorem d_M_dictOperator_206 : decode m_M_dictOperator.2.1 206 = .ok (.if_icmp .ne 7, 3) := by decide +kernel
theorem d_M_dictOperator_209 : decode m_M_dictOperator.2.1 209 = .ok (.lconst 0, 1) := by decide +kernel
theorem d_M_dictOperator_210 : decode m_M_dictOperator.2.1 210 = .ok (.goto 4, 3) := by decide +kernel
theorem d_M_dictOperator_213 : decode m_M_dictOperator.2.1 213 = .ok (.lconst 1, 1) := by decide +kernel
theorem d_M_dictOperator_214 : decode m_M_dictOperator.2.1 214 = .ok (.invokevirtual 262, 3) := by decide +kernel
theorem d_M_dictOperator_217 : decode m_M_dictOperator.2.1 217 = .ok (.ireturn, 1) := by decide +kernel
theorem d_M_dictOperator_218 : decode m_M_dictOperator.2.1 218 = .ok (.aload_n 0, 1) := by decide +kernel
theorem d_M_dictOperator_219 : decode m_M_dictOperator.2.1 219 = .ok (.bipush 6, 2) := by decide +kernel
theorem d_M_dictOperator_221 : decode m_M_dictOperator.2.1 221 = .ok (.aload_n 0, 1) := by decide +kernel
theorem d_M_dictOperator_222 : decode m_M_dictOperator.2.1 222 = .ok (.getfield 30, 3) := by decide +kernel
theorem d_M_dictOperator_225 : decode m_M_dictOperator.2.1 225 = .ok (.aload_n 0, 1) := by decide +kernel
theorem d_M_dictOperator_226 : decode m_M_dictOperator.2.1 226 = .ok (.getfield 33, 3) := by decide +kernel
theorem d_M_dictOperator_229 : decode m_M_dictOperator.2.1 229 = .ok (.iconst 1, 1) := by decide +kernel
theorem d_M_dictOperator_230 : decode m_M_dictOperator.2.1 230 = .ok (.isub, 1) := by decide +kernel
theorem d_M_dictOperator_231 : decode m_M_dictOperator.2.1 231 = .ok (.iaload, 1) := by decide +kernel
theorem d_M_dictOperator_232 : decode m_M_dictOperator.2.1 232 = .ok (.i2l, 1) := by decide +kernel
theorem d_M_dictOperator_233 : decode m_M_dictOperator.2.1 233 = .ok (.invokevirtual 388, 3) := by decide +kernel
theorem d_M_dictOperator_236 : decode m_M_dictOperator.2.1 236 = .ok (.ireturn, 1) := by decide +kernel
theorem d_M_readSimple_0 : decode m_M_readSimple.2.1 0 = .ok (.aload_n 0, 1) := by decide +kernel
theorem d_M_readSimple_1 : decode m_M_readSimple.2.1 1 = .ok (.getfield 61, 3) := by decide +kernel
theorem d_M_readSimple_4 : decode m_M_readSimple.2.1 4 = .ok (.aload_n 0, 1) := by decide +kernel
theorem d_M_readSimple_5 : decode m_M_readSimple.2.1 5 = .ok (.getfield 281, 3) := by decide +kernel
theorem d_M_readSimple_8 : decode m_M_readSimple.2.1 8 = .ok (.caload, 1) := by decide +kernel
theorem d_M_readSimple_9 : decode m_M_readSimple.2.1 9 = .ok (.istore_n 1, 1) := by decide +kernel
theorem d_M_readSimple_10 : decode m_M_readSimple.2.1 10 = .ok (.iload_n 1, 1) := by decide +kernel
theorem d_M_readSimple_11 : decode m_M_readSimple.2.1 11 = .ok (.invokestatic 273, 3) := by decide +kernel
theorem d_M_readSimple_14 : decode m_M_readSimple.2.1 14 = .ok (.ifCond .ne 9, 3) := by decide +kernel
theorem d_M_readSimple_17 : decode m_M_readSimple.2.1 17 = .ok (.iload_n 1, 1) := by decide +kernel
theorem d_M_readSimple_18 : decode m_M_readSimple.2.1 18 = .ok (.bipush 45, 2) := by decide +kernel
theorem d_M_readSimple_20 : decode m_M_readSimple.2.1 20 = .ok (.if_icmp .ne 8, 3) := by decide +kernel
theorem d_M_readSimple_23 : decode m_M_readSimple.2.1 23 = .ok (.aload_n 0, 1) := by decide +kernel
theorem d_M_readSimple_24 : decode m_M_readSimple.2.1 24 = .ok (.invokevirtual 318, 3) := by decide +kernel
theorem d_M_readSimple_27 : decode m_M_readSimple.2.1 27 = .ok (.ireturn, 1) := by decide +kernel
theorem d_M_readSimple_28 : decode m_M_readSimple.2.1 28 = .ok (.iload_n 1, 1) := by decide +kernel
theorem d_M_readSimple_29 : decode m_M_readSimple.2.1 29 = .ok (.invokestatic 304, 3) := by decide +kernel
theorem d_M_readSimple_32 : decode m_M_readSimple.2.1 32 = .ok (.ifCond .eq 10, 3) := by decide +kernel
theorem d_M_readSimple_35 : decode m_M_readSimple.2.1 35 = .ok (.aload_n 0, 1) := by decide +kernel
theorem d_M_readSimple_36 : decode m_M_readSimple.2.1 36 = .ok (.bipush 11, 2) := by decide +kernel
theorem d_M_readSimple_38 : decode m_M_readSimple.2.1 38 = .ok (.invokevirtual 322, 3) := by decide +kernel
theorem d_M_readSimple_41 : decode m_M_readSimple.2.1 41 = .ok (.ireturn, 1) := by decide +kernel
theorem d_M_readSimple_42 : decode m_M_readSimple.2.1 42 = .ok (.iload_n 1, 1) := by decide +kernel
theorem d_M_readSimple_43 : decode m_M_readSimple.2.1 43 = .ok (.bipush 47, 2) := by decide +kernel
theorem d_M_readSimple_45 : decode m_M_readSimple.2.1 45 = .ok (.if_icmp .ne 35, 3) := by decide +kernel
theorem d_M_readSimple_48 : decode m_M_readSimple.2.1 48 = .ok (.aload_n 0, 1) := by decide +kernel
theorem d_M_readSimple_49 : decode m_M_readSimple.2.1 49 = .ok (.aload_n 0, 1) := by decide +kernel
theorem d_M_readSimple_50 : decode m_M_readSimple.2.1 50 = .ok (.getfield 281, 3) := by decide +kernel
theorem d_M_readSimple_53 : decode m_M_readSimple.2.1 53 = .ok (.iconst 1, 1) := by decide +kernel
theorem d_M_readSimple_54 : decode m_M_readSimple.2.1 54 = .ok (.iadd, 1) := by decide +kernel
theorem d_M_readSimple_55 : decode m_M_readSimple.2.1 55 = .ok (.invokevirtual 292, 3) := by decide +kernel
theorem d_M_readSimple_58 : decode m_M_readSimple.2.1 58 = .ok (.invokestatic 304, 3) := by decide +kernel
theorem d_M_readSimple_61 : decode m_M_readSimple.2.1 61 = .ok (.ifCond .eq 19, 3) := by decide +kernel
theorem d_M_readSimple_64 : decode m_M_readSimple.2.1 64 = .ok (.aload_n 0, 1) := by decide +kernel
theorem d_M_readSimple_65 : decode m_M_readSimple.2.1 65 = .ok (.dup, 1) := by decide +kernel
theorem d_M_readSimple_66 : decode m_M_readSimple.2.1 66 = .ok (.getfield 281, 3) := by decide +kernel
theorem d_M_readSimple_69 : decode m_M_readSimple.2.1 69 = .ok (.iconst 1, 1) := by decide +kernel
theorem d_M_readSimple_70 : decode m_M_readSimple.2.1 70 = .ok (.iadd, 1) := by decide +kernel
theorem d_M_readSimple_71 : decode m_M_readSimple.2.1 71 = .ok (.putfield 281, 3) := by decide +kernel
theorem d_M_readSimple_74 : decode m_M_readSimple.2.1 74 = .ok (.aload_n 0, 1) := by decide +kernel
theorem d_M_readSimple_75 : decode m_M_readSimple.2.1 75 = .ok (.iconst 3, 1) := by decide +kernel
theorem d_M_readSimple_76 : decode m_M_readSimple.2.1 76 = .ok (.invokevirtual 322, 3) := by decide +kernel
theorem d_M_readSimple_79 : decode m_M_readSimple.2.1 79 = .ok (.ireturn, 1) := by decide +kernel
theorem d_M_readSimple_80 : decode m_M_readSimple.2.1 80 = .ok (.iload_n 1, 1) := by decide +kernel
theorem d_M_readSimple_81 : decode m_M_readSimple.2.1 81 = .ok (.bipush 91, 2) := by decide +kernel
theorem d_M_readSimple_83 : decode m_M_readSimple.2.1 83 = .ok (.if_icmp .eq 12, 3) := by decide +kernel
theorem d_M_readSimple_86 : decode m_M_readSimple.2.1 86 = .ok (.iload_n 1, 1) := by decide +kernel
theorem d_M_readSimple_87 : decode m_M_readSimple.2.1 87 = .ok (.bipush 93, 2) := by decide +kernel
theorem d_M_readSimple_89 : decode m_M_readSimple.2.1 89 = .ok (.if_icmp .eq 6, 3) := by decide +kernel
theorem d_M_readSimple_92 : decode m_M_readSimple.2.1 92 = .ok (.bipush 15, 2) := by decide +kernel
theorem d_M_readSimple_94 : decode m_M_readSimple.2.1 94 = .ok (.ireturn, 1) := by decide +kernel
theorem d_M_readSimple_95 : decode m_M_readSimple.2.1 95 = .ok (.aload_n 0, 1) := by decide +kernel
theorem d_M_readSimple_96 : decode m_M_readSimple.2.1 96 = .ok (.bipush 40, 2) := by decide +kernel
theorem d_M_readSimple_98 : decode m_M_readSimple.2.1 98 = .ok (.bipush 11, 2) := by decide +kernel
theorem d_M_readSimple_100 : decode m_M_readSimple.2.1 100 = .ok (.iload_n 1, 1) := by decide +kernel
theorem d_M_readSimple_101 : decode m_M_readSimple.2.1 101 = .ok (.bipush 91, 2) := by decide +kernel
theorem d_M_readSimple_103 : decode m_M_readSimple.2.1 103 = .ok (.if_icmp .ne 9, 3) := by decide +kernel
theorem d_M_readSimple_106 : decode m_M_readSimple.2.1 106 = .ok (.ldc2_w 314, 3) := by decide +kernel
theorem d_M_readSimple_109 : decode m_M_readSimple.2.1 109 = .ok (.goto 6, 3) := by decide +kernel
theorem d_M_readSimple_112 : decode m_M_readSimple.2.1 112 = .ok (.ldc2_w 316, 3) := by decide +kernel
theorem d_M_readSimple_115 : decode m_M_readSimple.2.1 115 = .ok (.invokevirtual 250, 3) := by decide +kernel
theorem d_M_readSimple_118 : decode m_M_readSimple.2.1 118 = .ok (.aload_n 0, 1) := by decide +kernel
theorem d_M_readSimple_119 : decode m_M_readSimple.2.1 119 = .ok (.dup, 1) := by decide +kernel
theorem d_M_readSimple_120 : decode m_M_readSimple.2.1 120 = .ok (.getfield 281, 3) := by decide +kernel
theorem d_M_readSimple_123 : decode m_M_readSimple.2.1 123 = .ok (.iconst 1, 1) := by decide +kernel
theorem d_M_readSimple_124 : decode m_M_readSimple.2.1 124 = .ok (.iadd, 1) := by decide +kernel
theorem d_M_readSimple_125 : decode m_M_readSimple.2.1 125 = .ok (.putfield 281, 3) := by decide +kernel
theorem d_M_readSimple_128 : decode m_M_readSimple.2.1 128 = .ok (.iconst 0, 1) := by decide +kernel
theorem d_M_readSimple_129 : decode m_M_readSimple.2.1 129 = .ok (.ireturn, 1) := by decide +kernel
theorem d_M_single_0 : decode m_M_single.2.1 0 = .ok (.aload_n 0, 1) := by decide +kernel
theorem d_M_single_1 : decode m_M_single.2.1 1 = .ok (.getfield 247, 3) := by decide +kernel
theorem d_M_single_4 : decode m_M_single.2.1 4 = .ok (.iconst 1, 1) := by decide +kernel
theorem d_M_single_5 : decode m_M_single.2.1 5 = .ok (.isub, 1) := by decide +kernel
theorem d_M_single_6 : decode m_M_single.2.1 6 = .ok (.istore_n 2, 1) := by decide +kernel
theorem d_M_single_7 : decode m_M_single.2.1 7 = .ok (.aload_n 0, 1) := by decide +kernel
theorem d_M_single_8 : decode m_M_single.2.1 8 = .ok (.iload_n 2, 1) := by decide +kernel
theorem d_M_single_9 : decode m_M_single.2.1 9 = .ok (.invokevirtual 473, 3) := by decide +kernel
theorem d_M_single_12 : decode m_M_single.2.1 12 = .ok (.dstore_n 3, 1) := by decide +kernel
theorem d_M_single_13 : decode m_M_single.2.1 13 = .ok (.iload_n 1, 1) := by decide +kernel
theorem d_M_single_14 : decode m_M_single.2.1 14 = .ok (.bipush 16, 2) := by decide +kernel
theorem d_M_single_16 : decode m_M_single.2.1 16 = .ok (.if_icmp .ne 36, 3) := by decide +kernel
theorem d_M_single_19 : decode m_M_single.2.1 19 = .ok (.aload_n 0, 1) := by decide +kernel
theorem d_M_single_20 : decode m_M_single.2.1 20 = .ok (.getfield 7, 3) := by decide +kernel
theorem d_M_single_23 : decode m_M_single.2.1 23 = .ok (.iload_n 2, 1) := by decide +kernel
theorem d_M_single_24 : decode m_M_single.2.1 24 = .ok (.iaload, 1) := by decide +kernel
theorem d_M_single_25 : decode m_M_single.2.1 25 = .ok (.ifCond .ne 18, 3) := by decide +kernel
theorem d_M_single_28 : decode m_M_single.2.1 28 = .ok (.aload_n 0, 1) := by decide +kernel
theorem d_M_single_29 : decode m_M_single.2.1 29 = .ok (.iconst 1, 1) := by decide +kernel
theorem d_M_single_30 : decode m_M_single.2.1 30 = .ok (.aload_n 0, 1) := by decide +kernel
theorem d_M_single_31 : decode m_M_single.2.1 31 = .ok (.getfield 13, 3) := by decide +kernel
