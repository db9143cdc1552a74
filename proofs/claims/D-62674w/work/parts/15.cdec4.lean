theorem d_P_operate_92 : decode m_P_operate.2.1 92 = .ok (.goto 4, 3) := by decide +kernel
theorem d_P_operate_95 : decode m_P_operate.2.1 95 = .ok (.aload_n 3, 1) := by decide +kernel
theorem d_P_operate_96 : decode m_P_operate.2.1 96 = .ok (.iload_n 2, 1) := by decide +kernel
theorem d_P_operate_97 : decode m_P_operate.2.1 97 = .ok (.invokevirtual 374, 3) := by decide +kernel
theorem d_P_operate_100 : decode m_P_operate.2.1 100 = .ok (.return_, 1) := by decide +kernel
theorem d_P_lookUp_0 : decode m_P_lookUp.2.1 0 = .ok (.aload_n 0, 1) := by decide +kernel
theorem d_P_lookUp_1 : decode m_P_lookUp.2.1 1 = .ok (.aload_n 1, 1) := by decide +kernel
theorem d_P_lookUp_2 : decode m_P_lookUp.2.1 2 = .ok (.invokevirtual 342, 3) := by decide +kernel
theorem d_P_lookUp_5 : decode m_P_lookUp.2.1 5 = .ok (.astore_n 3, 1) := by decide +kernel
theorem d_P_lookUp_6 : decode m_P_lookUp.2.1 6 = .ok (.aload_n 3, 1) := by decide +kernel
theorem d_P_lookUp_7 : decode m_P_lookUp.2.1 7 = .ok (.ifnonnull 15, 3) := by decide +kernel
theorem d_P_lookUp_10 : decode m_P_lookUp.2.1 10 = .ok (.aload_n 0, 1) := by decide +kernel
theorem d_P_lookUp_11 : decode m_P_lookUp.2.1 11 = .ok (.aload_n 1, 1) := by decide +kernel
theorem d_P_lookUp_12 : decode m_P_lookUp.2.1 12 = .ok (.invokevirtual 343, 3) := by decide +kernel
theorem d_P_lookUp_15 : decode m_P_lookUp.2.1 15 = .ok (.iload_n 2, 1) := by decide +kernel
theorem d_P_lookUp_16 : decode m_P_lookUp.2.1 16 = .ok (.invokevirtual 347, 3) := by decide +kernel
theorem d_P_lookUp_19 : decode m_P_lookUp.2.1 19 = .ok (.goto 78, 3) := by decide +kernel
theorem d_P_lookUp_22 : decode m_P_lookUp.2.1 22 = .ok (.aload_n 3, 1) := by decide +kernel
theorem d_P_lookUp_23 : decode m_P_lookUp.2.1 23 = .ok (.invokevirtual 351, 3) := by decide +kernel
theorem d_P_lookUp_26 : decode m_P_lookUp.2.1 26 = .ok (.ifCond .eq 21, 3) := by decide +kernel
theorem d_P_lookUp_29 : decode m_P_lookUp.2.1 29 = .ok (.aload_n 0, 1) := by decide +kernel
theorem d_P_lookUp_30 : decode m_P_lookUp.2.1 30 = .ok (.aload_n 3, 1) := by decide +kernel
theorem d_P_lookUp_31 : decode m_P_lookUp.2.1 31 = .ok (.getfield 355, 3) := by decide +kernel
theorem d_P_lookUp_34 : decode m_P_lookUp.2.1 34 = .ok (.aload_n 3, 1) := by decide +kernel
theorem d_P_lookUp_35 : decode m_P_lookUp.2.1 35 = .ok (.getfield 358, 3) := by decide +kernel
theorem d_P_lookUp_38 : decode m_P_lookUp.2.1 38 = .ok (.iload_n 2, 1) := by decide +kernel
theorem d_P_lookUp_39 : decode m_P_lookUp.2.1 39 = .ok (.iconst 1, 1) := by decide +kernel
theorem d_P_lookUp_40 : decode m_P_lookUp.2.1 40 = .ok (.iadd, 1) := by decide +kernel
theorem d_P_lookUp_41 : decode m_P_lookUp.2.1 41 = .ok (.invokevirtual 360, 3) := by decide +kernel
theorem d_P_lookUp_44 : decode m_P_lookUp.2.1 44 = .ok (.goto 53, 3) := by decide +kernel
theorem d_P_lookUp_47 : decode m_P_lookUp.2.1 47 = .ok (.aload_n 3, 1) := by decide +kernel
theorem d_P_lookUp_48 : decode m_P_lookUp.2.1 48 = .ok (.getstatic 320, 3) := by decide +kernel
theorem d_P_lookUp_51 : decode m_P_lookUp.2.1 51 = .ok (.invokevirtual 323, 3) := by decide +kernel
theorem d_P_lookUp_54 : decode m_P_lookUp.2.1 54 = .ok (.ifCond .eq 38, 3) := by decide +kernel
theorem d_P_lookUp_57 : decode m_P_lookUp.2.1 57 = .ok (.aload_n 3, 1) := by decide +kernel
theorem d_P_lookUp_58 : decode m_P_lookUp.2.1 58 = .ok (.getfield 327, 3) := by decide +kernel
theorem d_P_lookUp_61 : decode m_P_lookUp.2.1 61 = .ok (.ifCond .eq 31, 3) := by decide +kernel
theorem d_P_lookUp_64 : decode m_P_lookUp.2.1 64 = .ok (.aload_n 0, 1) := by decide +kernel
theorem d_P_lookUp_65 : decode m_P_lookUp.2.1 65 = .ok (.iload_n 2, 1) := by decide +kernel
theorem d_P_lookUp_66 : decode m_P_lookUp.2.1 66 = .ok (.bipush 8, 2) := by decide +kernel
theorem d_P_lookUp_68 : decode m_P_lookUp.2.1 68 = .ok (.if_icmp .ge 7, 3) := by decide +kernel
theorem d_P_lookUp_71 : decode m_P_lookUp.2.1 71 = .ok (.iconst 1, 1) := by decide +kernel
theorem d_P_lookUp_72 : decode m_P_lookUp.2.1 72 = .ok (.goto 4, 3) := by decide +kernel
theorem d_P_lookUp_75 : decode m_P_lookUp.2.1 75 = .ok (.iconst 0, 1) := by decide +kernel
theorem d_P_lookUp_76 : decode m_P_lookUp.2.1 76 = .ok (.bipush 12, 2) := by decide +kernel
theorem d_P_lookUp_78 : decode m_P_lookUp.2.1 78 = .ok (.invokevirtual 170, 3) := by decide +kernel
theorem d_P_lookUp_81 : decode m_P_lookUp.2.1 81 = .ok (.aload_n 0, 1) := by decide +kernel
theorem d_P_lookUp_82 : decode m_P_lookUp.2.1 82 = .ok (.aload_n 3, 1) := by decide +kernel
theorem d_P_lookUp_83 : decode m_P_lookUp.2.1 83 = .ok (.iload_n 2, 1) := by decide +kernel
theorem d_P_lookUp_84 : decode m_P_lookUp.2.1 84 = .ok (.iconst 1, 1) := by decide +kernel
theorem d_P_lookUp_85 : decode m_P_lookUp.2.1 85 = .ok (.iadd, 1) := by decide +kernel
theorem d_P_lookUp_86 : decode m_P_lookUp.2.1 86 = .ok (.invokevirtual 364, 3) := by decide +kernel
theorem d_P_lookUp_89 : decode m_P_lookUp.2.1 89 = .ok (.goto 8, 3) := by decide +kernel
theorem d_P_lookUp_92 : decode m_P_lookUp.2.1 92 = .ok (.aload_n 0, 1) := by decide +kernel
theorem d_P_lookUp_93 : decode m_P_lookUp.2.1 93 = .ok (.aload_n 3, 1) := by decide +kernel
theorem d_P_lookUp_94 : decode m_P_lookUp.2.1 94 = .ok (.invokevirtual 339, 3) := by decide +kernel
theorem d_P_lookUp_97 : decode m_P_lookUp.2.1 97 = .ok (.return_, 1) := by decide +kernel
theorem d_P_element_0 : decode m_P_element.2.1 0 = .ok (.aload_n 0, 1) := by decide +kernel
theorem d_P_element_1 : decode m_P_element.2.1 1 = .ok (.invokevirtual 317, 3) := by decide +kernel
theorem d_P_element_4 : decode m_P_element.2.1 4 = .ok (.aload_n 1, 1) := by decide +kernel
theorem d_P_element_5 : decode m_P_element.2.1 5 = .ok (.getstatic 320, 3) := by decide +kernel
theorem d_P_element_8 : decode m_P_element.2.1 8 = .ok (.invokevirtual 323, 3) := by decide +kernel
theorem d_P_element_11 : decode m_P_element.2.1 11 = .ok (.ifCond .eq 22, 3) := by decide +kernel
theorem d_P_element_14 : decode m_P_element.2.1 14 = .ok (.aload_n 1, 1) := by decide +kernel
theorem d_P_element_15 : decode m_P_element.2.1 15 = .ok (.getfield 327, 3) := by decide +kernel
theorem d_P_element_18 : decode m_P_element.2.1 18 = .ok (.ifCond .eq 15, 3) := by decide +kernel
theorem d_P_element_21 : decode m_P_element.2.1 21 = .ok (.aload_n 0, 1) := by decide +kernel
theorem d_P_element_22 : decode m_P_element.2.1 22 = .ok (.aload_n 1, 1) := by decide +kernel
theorem d_P_element_23 : decode m_P_element.2.1 23 = .ok (.getfield 331, 3) := by decide +kernel
theorem d_P_element_26 : decode m_P_element.2.1 26 = .ok (.iload_n 2, 1) := by decide +kernel
theorem d_P_element_27 : decode m_P_element.2.1 27 = .ok (.invokevirtual 335, 3) := by decide +kernel
theorem d_P_element_30 : decode m_P_element.2.1 30 = .ok (.goto 8, 3) := by decide +kernel
theorem d_P_element_33 : decode m_P_element.2.1 33 = .ok (.aload_n 0, 1) := by decide +kernel
theorem d_P_element_34 : decode m_P_element.2.1 34 = .ok (.aload_n 1, 1) := by decide +kernel
theorem d_P_element_35 : decode m_P_element.2.1 35 = .ok (.invokevirtual 339, 3) := by decide +kernel
theorem d_P_element_38 : decode m_P_element.2.1 38 = .ok (.return_, 1) := by decide +kernel
theorem d_P_fault_0 : decode m_P_fault.2.1 0 = .ok (.aload_n 0, 1) := by decide +kernel
theorem d_P_fault_1 : decode m_P_fault.2.1 1 = .ok (.getfield 164, 3) := by decide +kernel
theorem d_P_fault_4 : decode m_P_fault.2.1 4 = .ok (.ireturn, 1) := by decide +kernel
theorem d_P_feed_0 : decode m_P_feed.2.1 0 = .ok (.aload_n 0, 1) := by decide +kernel
theorem d_P_feed_1 : decode m_P_feed.2.1 1 = .ok (.getfield 174, 3) := by decide +kernel
theorem d_P_feed_4 : decode m_P_feed.2.1 4 = .ok (.bipush 40, 2) := by decide +kernel
theorem d_P_feed_6 : decode m_P_feed.2.1 6 = .ok (.if_icmp .ge 23, 3) := by decide +kernel
theorem d_P_feed_9 : decode m_P_feed.2.1 9 = .ok (.dload_n 1, 1) := by decide +kernel
theorem d_P_feed_10 : decode m_P_feed.2.1 10 = .ok (.ldc2_w 213, 3) := by decide +kernel
theorem d_P_feed_13 : decode m_P_feed.2.1 13 = .ok (.dcmp .g, 1) := by decide +kernel
theorem d_P_feed_14 : decode m_P_feed.2.1 14 = .ok (.ifCond .gt 15, 3) := by decide +kernel
theorem d_P_feed_17 : decode m_P_feed.2.1 17 = .ok (.dload_n 1, 1) := by decide +kernel
theorem d_P_feed_18 : decode m_P_feed.2.1 18 = .ok (.ldc2_w 215, 3) := by decide +kernel
theorem d_P_feed_21 : decode m_P_feed.2.1 21 = .ok (.dcmp .l, 1) := by decide +kernel
theorem d_P_feed_22 : decode m_P_feed.2.1 22 = .ok (.ifCond .lt 7, 3) := by decide +kernel
theorem d_P_feed_25 : decode m_P_feed.2.1 25 = .ok (.iconst 1, 1) := by decide +kernel
theorem d_P_feed_26 : decode m_P_feed.2.1 26 = .ok (.goto 4, 3) := by decide +kernel
theorem d_P_feed_29 : decode m_P_feed.2.1 29 = .ok (.iconst 0, 1) := by decide +kernel
theorem d_P_feed_30 : decode m_P_feed.2.1 30 = .ok (.istore_n 3, 1) := by decide +kernel
theorem d_P_feed_31 : decode m_P_feed.2.1 31 = .ok (.iload_n 3, 1) := by decide +kernel
theorem d_P_feed_32 : decode m_P_feed.2.1 32 = .ok (.ifCond .eq 12, 3) := by decide +kernel
theorem d_P_feed_35 : decode m_P_feed.2.1 35 = .ok (.aload_n 0, 1) := by decide +kernel
theorem d_P_feed_36 : decode m_P_feed.2.1 36 = .ok (.iconst 0, 1) := by decide +kernel
theorem d_P_feed_37 : decode m_P_feed.2.1 37 = .ok (.invokevirtual 178, 3) := by decide +kernel
theorem d_P_feed_40 : decode m_P_feed.2.1 40 = .ok (.dload_n 1, 1) := by decide +kernel
theorem d_P_feed_41 : decode m_P_feed.2.1 41 = .ok (.invokevirtual 217, 3) := by decide +kernel
theorem d_P_feed_44 : decode m_P_feed.2.1 44 = .ok (.iload_n 3, 1) := by decide +kernel
theorem d_P_feed_45 : decode m_P_feed.2.1 45 = .ok (.ireturn, 1) := by decide +kernel
theorem d_Stacks_init_0 : decode m_Stacks_init.2.1 0 = .ok (.aload_n 0, 1) := by decide +kernel
theorem d_Stacks_init_1 : decode m_Stacks_init.2.1 1 = .ok (.invokespecial 3, 3) := by decide +kernel
theorem d_Stacks_init_4 : decode m_Stacks_init.2.1 4 = .ok (.return_, 1) := by decide +kernel
theorem d_Truths_init_0 : decode m_Truths_init.2.1 0 = .ok (.aload_n 0, 1) := by decide +kernel
theorem d_Truths_init_1 : decode m_Truths_init.2.1 1 = .ok (.invokespecial 1, 3) := by decide +kernel
theorem d_Truths_init_4 : decode m_Truths_init.2.1 4 = .ok (.return_, 1) := by decide +kernel
theorem d_Paint_init_0 : decode m_Paint_init.2.1 0 = .ok (.aload_n 0, 1) := by decide +kernel
theorem d_Paint_init_1 : decode m_Paint_init.2.1 1 = .ok (.invokespecial 3, 3) := by decide +kernel
theorem d_Paint_init_4 : decode m_Paint_init.2.1 4 = .ok (.return_, 1) := by decide +kernel
theorem d_StringBuilder_init1_0 : decode m_StringBuilder_init1.2.1 0 = .ok (.aload_n 0, 1) := by decide +kernel
theorem d_StringBuilder_init1_1 : decode m_StringBuilder_init1.2.1 1 = .ok (.iload_n 1, 1) := by decide +kernel
theorem d_StringBuilder_init1_2 : decode m_StringBuilder_init1.2.1 2 = .ok (.invokespecial 1, 3) := by decide +kernel
theorem d_StringBuilder_init1_5 : decode m_StringBuilder_init1.2.1 5 = .ok (.return_, 1) := by decide +kernel
theorem d_P_init_0 : decode m_P_init.2.1 0 = .ok (.aload_n 0, 1) := by decide +kernel
theorem d_P_init_1 : decode m_P_init.2.1 1 = .ok (.invokespecial 1, 3) := by decide +kernel
theorem d_P_init_4 : decode m_P_init.2.1 4 = .ok (.aload_n 0, 1) := by decide +kernel
theorem d_P_init_5 : decode m_P_init.2.1 5 = .ok (.bipush 6, 2) := by decide +kernel
theorem d_P_init_7 : decode m_P_init.2.1 7 = .ok (.anewarray 7, 3) := by decide +kernel
theorem d_P_init_10 : decode m_P_init.2.1 10 = .ok (.dup, 1) := by decide +kernel
theorem d_P_init_11 : decode m_P_init.2.1 11 = .ok (.iconst 0, 1) := by decide +kernel
theorem d_P_init_12 : decode m_P_init.2.1 12 = .ok (.new 9, 3) := by decide +kernel
theorem d_P_init_15 : decode m_P_init.2.1 15 = .ok (.dup, 1) := by decide +kernel
theorem d_P_init_16 : decode m_P_init.2.1 16 = .ok (.invokespecial 11, 3) := by decide +kernel
theorem d_P_init_19 : decode m_P_init.2.1 19 = .ok (.aastore, 1) := by decide +kernel
theorem d_P_init_20 : decode m_P_init.2.1 20 = .ok (.dup, 1) := by decide +kernel
theorem d_P_init_21 : decode m_P_init.2.1 21 = .ok (.iconst 1, 1) := by decide +kernel
theorem d_P_init_22 : decode m_P_init.2.1 22 = .ok (.new 12, 3) := by decide +kernel
theorem d_P_init_25 : decode m_P_init.2.1 25 = .ok (.dup, 1) := by decide +kernel
theorem d_P_init_26 : decode m_P_init.2.1 26 = .ok (.invokespecial 14, 3) := by decide +kernel
theorem d_P_init_29 : decode m_P_init.2.1 29 = .ok (.aastore, 1) := by decide +kernel
theorem d_P_init_30 : decode m_P_init.2.1 30 = .ok (.dup, 1) := by decide +kernel
theorem d_P_init_31 : decode m_P_init.2.1 31 = .ok (.iconst 2, 1) := by decide +kernel
theorem d_P_init_32 : decode m_P_init.2.1 32 = .ok (.new 15, 3) := by decide +kernel
theorem d_P_init_35 : decode m_P_init.2.1 35 = .ok (.dup, 1) := by decide +kernel
theorem d_P_init_36 : decode m_P_init.2.1 36 = .ok (.invokespecial 17, 3) := by decide +kernel
theorem d_P_init_39 : decode m_P_init.2.1 39 = .ok (.aastore, 1) := by decide +kernel
theorem d_P_init_40 : decode m_P_init.2.1 40 = .ok (.dup, 1) := by decide +kernel
theorem d_P_init_41 : decode m_P_init.2.1 41 = .ok (.iconst 3, 1) := by decide +kernel
theorem d_P_init_42 : decode m_P_init.2.1 42 = .ok (.new 18, 3) := by decide +kernel
theorem d_P_init_45 : decode m_P_init.2.1 45 = .ok (.dup, 1) := by decide +kernel
theorem d_P_init_46 : decode m_P_init.2.1 46 = .ok (.invokespecial 20, 3) := by decide +kernel
theorem d_P_init_49 : decode m_P_init.2.1 49 = .ok (.aastore, 1) := by decide +kernel
theorem d_P_init_50 : decode m_P_init.2.1 50 = .ok (.dup, 1) := by decide +kernel
theorem d_P_init_51 : decode m_P_init.2.1 51 = .ok (.iconst 4, 1) := by decide +kernel
theorem d_P_init_52 : decode m_P_init.2.1 52 = .ok (.new 21, 3) := by decide +kernel
theorem d_P_init_55 : decode m_P_init.2.1 55 = .ok (.dup, 1) := by decide +kernel
theorem d_P_init_56 : decode m_P_init.2.1 56 = .ok (.invokespecial 23, 3) := by decide +kernel
theorem d_P_init_59 : decode m_P_init.2.1 59 = .ok (.aastore, 1) := by decide +kernel
theorem d_P_init_60 : decode m_P_init.2.1 60 = .ok (.dup, 1) := by decide +kernel
theorem d_P_init_61 : decode m_P_init.2.1 61 = .ok (.iconst 5, 1) := by decide +kernel
theorem d_P_init_62 : decode m_P_init.2.1 62 = .ok (.new 24, 3) := by decide +kernel
theorem d_P_init_65 : decode m_P_init.2.1 65 = .ok (.dup, 1) := by decide +kernel
theorem d_P_init_66 : decode m_P_init.2.1 66 = .ok (.invokespecial 26, 3) := by decide +kernel
theorem d_P_init_69 : decode m_P_init.2.1 69 = .ok (.aastore, 1) := by decide +kernel
theorem d_P_init_70 : decode m_P_init.2.1 70 = .ok (.putfield 27, 3) := by decide +kernel
theorem d_P_init_73 : decode m_P_init.2.1 73 = .ok (.aload_n 0, 1) := by decide +kernel
theorem d_P_init_74 : decode m_P_init.2.1 74 = .ok (.bipush 32, 2) := by decide +kernel
theorem d_P_init_76 : decode m_P_init.2.1 76 = .ok (.anewarray 33, 3) := by decide +kernel
theorem d_P_init_79 : decode m_P_init.2.1 79 = .ok (.putfield 35, 3) := by decide +kernel
theorem d_P_init_82 : decode m_P_init.2.1 82 = .ok (.aload_n 0, 1) := by decide +kernel
theorem d_P_init_83 : decode m_P_init.2.1 83 = .ok (.new 39, 3) := by decide +kernel
theorem d_P_init_86 : decode m_P_init.2.1 86 = .ok (.dup, 1) := by decide +kernel
theorem d_P_init_87 : decode m_P_init.2.1 87 = .ok (.bipush 120, 2) := by decide +kernel
theorem d_P_init_89 : decode m_P_init.2.1 89 = .ok (.invokespecial 41, 3) := by decide +kernel
theorem d_P_init_92 : decode m_P_init.2.1 92 = .ok (.putfield 44, 3) := by decide +kernel
theorem d_P_init_95 : decode m_P_init.2.1 95 = .ok (.aload_n 0, 1) := by decide +kernel
theorem d_P_init_96 : decode m_P_init.2.1 96 = .ok (.new 39, 3) := by decide +kernel
theorem d_P_init_99 : decode m_P_init.2.1 99 = .ok (.dup, 1) := by decide +kernel
theorem d_P_init_100 : decode m_P_init.2.1 100 = .ok (.bipush 120, 2) := by decide +kernel
theorem d_P_init_102 : decode m_P_init.2.1 102 = .ok (.invokespecial 41, 3) := by decide +kernel
theorem d_P_init_105 : decode m_P_init.2.1 105 = .ok (.putfield 48, 3) := by decide +kernel
theorem d_P_init_108 : decode m_P_init.2.1 108 = .ok (.aload_n 0, 1) := by decide +kernel
theorem d_P_init_109 : decode m_P_init.2.1 109 = .ok (.bipush 41, 2) := by decide +kernel
theorem d_P_init_111 : decode m_P_init.2.1 111 = .ok (.anewarray 51, 3) := by decide +kernel
theorem d_P_init_114 : decode m_P_init.2.1 114 = .ok (.putfield 53, 3) := by decide +kernel
theorem d_P_init_117 : decode m_P_init.2.1 117 = .ok (.aload_n 0, 1) := by decide +kernel
theorem d_P_init_118 : decode m_P_init.2.1 118 = .ok (.sipush 160, 3) := by decide +kernel
theorem d_P_init_121 : decode m_P_init.2.1 121 = .ok (.anewarray 51, 3) := by decide +kernel
theorem d_P_init_124 : decode m_P_init.2.1 124 = .ok (.putfield 57, 3) := by decide +kernel
theorem d_P_init_127 : decode m_P_init.2.1 127 = .ok (.aload_n 0, 1) := by decide +kernel
theorem d_P_init_128 : decode m_P_init.2.1 128 = .ok (.bipush 120, 2) := by decide +kernel
theorem d_P_init_130 : decode m_P_init.2.1 130 = .ok (.anewarray 51, 3) := by decide +kernel
theorem d_P_init_133 : decode m_P_init.2.1 133 = .ok (.putfield 60, 3) := by decide +kernel
theorem d_P_init_136 : decode m_P_init.2.1 136 = .ok (.aload_n 0, 1) := by decide +kernel
theorem d_P_init_137 : decode m_P_init.2.1 137 = .ok (.new 63, 3) := by decide +kernel
theorem d_P_init_140 : decode m_P_init.2.1 140 = .ok (.dup, 1) := by decide +kernel
theorem d_P_init_141 : decode m_P_init.2.1 141 = .ok (.bipush 7, 2) := by decide +kernel
theorem d_P_init_143 : decode m_P_init.2.1 143 = .ok (.invokespecial 65, 3) := by decide +kernel
theorem d_P_init_146 : decode m_P_init.2.1 146 = .ok (.putfield 66, 3) := by decide +kernel
theorem d_P_init_149 : decode m_P_init.2.1 149 = .ok (.aload_n 0, 1) := by decide +kernel
theorem d_P_init_150 : decode m_P_init.2.1 150 = .ok (.bipush 6, 2) := by decide +kernel
theorem d_P_init_152 : decode m_P_init.2.1 152 = .ok (.anewarray 70, 3) := by decide +kernel
theorem d_P_init_155 : decode m_P_init.2.1 155 = .ok (.putfield 72, 3) := by decide +kernel
theorem d_P_init_158 : decode m_P_init.2.1 158 = .ok (.aload_n 0, 1) := by decide +kernel
theorem d_P_init_159 : decode m_P_init.2.1 159 = .ok (.iconst 1, 1) := by decide +kernel
theorem d_P_init_160 : decode m_P_init.2.1 160 = .ok (.putfield 76, 3) := by decide +kernel
theorem d_P_init_163 : decode m_P_init.2.1 163 = .ok (.aload_n 0, 1) := by decide +kernel
theorem d_P_init_164 : decode m_P_init.2.1 164 = .ok (.bipush 20, 2) := by decide +kernel
theorem d_P_init_166 : decode m_P_init.2.1 166 = .ok (.newarray .int, 2) := by decide +kernel
theorem d_P_init_168 : decode m_P_init.2.1 168 = .ok (.putfield 80, 3) := by decide +kernel
theorem d_P_init_171 : decode m_P_init.2.1 171 = .ok (.aload_n 0, 1) := by decide +kernel
theorem d_P_init_172 : decode m_P_init.2.1 172 = .ok (.bipush 20, 2) := by decide +kernel
theorem d_P_init_174 : decode m_P_init.2.1 174 = .ok (.newarray .int, 2) := by decide +kernel
theorem d_P_init_176 : decode m_P_init.2.1 176 = .ok (.putfield 84, 3) := by decide +kernel
theorem d_P_init_179 : decode m_P_init.2.1 179 = .ok (.aload_n 0, 1) := by decide +kernel
theorem d_P_init_180 : decode m_P_init.2.1 180 = .ok (.iconst 3, 1) := by decide +kernel
theorem d_P_init_181 : decode m_P_init.2.1 181 = .ok (.anewarray 87, 3) := by decide +kernel
theorem d_P_init_184 : decode m_P_init.2.1 184 = .ok (.putfield 89, 3) := by decide +kernel
theorem d_P_init_187 : decode m_P_init.2.1 187 = .ok (.aload_n 0, 1) := by decide +kernel
theorem d_P_init_188 : decode m_P_init.2.1 188 = .ok (.fconst 1, 1) := by decide +kernel
theorem d_P_init_189 : decode m_P_init.2.1 189 = .ok (.putfield 93, 3) := by decide +kernel
theorem d_P_init_192 : decode m_P_init.2.1 192 = .ok (.aload_n 0, 1) := by decide +kernel
theorem d_P_init_193 : decode m_P_init.2.1 193 = .ok (.bipush 30, 2) := by decide +kernel
theorem d_P_init_195 : decode m_P_init.2.1 195 = .ok (.newarray .double, 2) := by decide +kernel
theorem d_P_init_197 : decode m_P_init.2.1 197 = .ok (.putfield 97, 3) := by decide +kernel
theorem d_P_init_200 : decode m_P_init.2.1 200 = .ok (.aload_n 0, 1) := by decide +kernel
theorem d_P_init_201 : decode m_P_init.2.1 201 = .ok (.bipush 30, 2) := by decide +kernel
theorem d_P_init_203 : decode m_P_init.2.1 203 = .ok (.newarray .double, 2) := by decide +kernel
theorem d_P_init_205 : decode m_P_init.2.1 205 = .ok (.putfield 101, 3) := by decide +kernel
theorem d_P_init_208 : decode m_P_init.2.1 208 = .ok (.aload_n 0, 1) := by decide +kernel
theorem d_P_init_209 : decode m_P_init.2.1 209 = .ok (.bipush 30, 2) := by decide +kernel
theorem d_P_init_211 : decode m_P_init.2.1 211 = .ok (.newarray .int, 2) := by decide +kernel
theorem d_P_init_213 : decode m_P_init.2.1 213 = .ok (.putfield 104, 3) := by decide +kernel
theorem d_P_init_216 : decode m_P_init.2.1 216 = .ok (.aload_n 0, 1) := by decide +kernel
theorem d_P_init_217 : decode m_P_init.2.1 217 = .ok (.bipush 30, 2) := by decide +kernel
theorem d_P_init_219 : decode m_P_init.2.1 219 = .ok (.newarray .int, 2) := by decide +kernel
theorem d_P_init_221 : decode m_P_init.2.1 221 = .ok (.putfield 107, 3) := by decide +kernel
theorem d_P_init_224 : decode m_P_init.2.1 224 = .ok (.aload_n 0, 1) := by decide +kernel
theorem d_P_init_225 : decode m_P_init.2.1 225 = .ok (.bipush 30, 2) := by decide +kernel
theorem d_P_init_227 : decode m_P_init.2.1 227 = .ok (.newarray .int, 2) := by decide +kernel
theorem d_P_init_229 : decode m_P_init.2.1 229 = .ok (.putfield 110, 3) := by decide +kernel
theorem d_P_init_232 : decode m_P_init.2.1 232 = .ok (.aload_n 0, 1) := by decide +kernel
theorem d_P_init_233 : decode m_P_init.2.1 233 = .ok (.bipush 16, 2) := by decide +kernel
theorem d_P_init_235 : decode m_P_init.2.1 235 = .ok (.bipush 24, 2) := by decide +kernel
theorem d_P_init_237 : decode m_P_init.2.1 237 = .ok (.multianewarray 113 2, 4) := by decide +kernel
theorem d_P_init_241 : decode m_P_init.2.1 241 = .ok (.putfield 115, 3) := by decide +kernel
theorem d_P_init_244 : decode m_P_init.2.1 244 = .ok (.aload_n 0, 1) := by decide +kernel
theorem d_P_init_245 : decode m_P_init.2.1 245 = .ok (.iload_n 1, 1) := by decide +kernel
theorem d_P_init_246 : decode m_P_init.2.1 246 = .ok (.iconst 1, 1) := by decide +kernel
theorem d_P_init_247 : decode m_P_init.2.1 247 = .ok (.if_icmp .lt 13, 3) := by decide +kernel
theorem d_P_init_250 : decode m_P_init.2.1 250 = .ok (.iload_n 1, 1) := by decide +kernel
theorem d_P_init_251 : decode m_P_init.2.1 251 = .ok (.bipush 24, 2) := by decide +kernel
theorem d_P_init_253 : decode m_P_init.2.1 253 = .ok (.if_icmp .gt 7, 3) := by decide +kernel
theorem d_P_init_256 : decode m_P_init.2.1 256 = .ok (.iload_n 1, 1) := by decide +kernel
theorem d_P_init_257 : decode m_P_init.2.1 257 = .ok (.goto 5, 3) := by decide +kernel
theorem d_P_init_260 : decode m_P_init.2.1 260 = .ok (.bipush 16, 2) := by decide +kernel
theorem d_P_init_262 : decode m_P_init.2.1 262 = .ok (.putfield 118, 3) := by decide +kernel
theorem d_P_init_265 : decode m_P_init.2.1 265 = .ok (.aload_n 0, 1) := by decide +kernel
theorem d_P_init_266 : decode m_P_init.2.1 266 = .ok (.iload_n 2, 1) := by decide +kernel
theorem d_P_init_267 : decode m_P_init.2.1 267 = .ok (.iconst 1, 1) := by decide +kernel
theorem d_P_init_268 : decode m_P_init.2.1 268 = .ok (.if_icmp .lt 13, 3) := by decide +kernel
theorem d_P_init_271 : decode m_P_init.2.1 271 = .ok (.iload_n 2, 1) := by decide +kernel
theorem d_P_init_272 : decode m_P_init.2.1 272 = .ok (.bipush 16, 2) := by decide +kernel
theorem d_P_init_274 : decode m_P_init.2.1 274 = .ok (.if_icmp .gt 7, 3) := by decide +kernel
theorem d_P_init_277 : decode m_P_init.2.1 277 = .ok (.iload_n 2, 1) := by decide +kernel
theorem d_P_init_278 : decode m_P_init.2.1 278 = .ok (.goto 5, 3) := by decide +kernel
theorem d_P_init_281 : decode m_P_init.2.1 281 = .ok (.bipush 12, 2) := by decide +kernel
theorem d_P_init_283 : decode m_P_init.2.1 283 = .ok (.putfield 121, 3) := by decide +kernel
theorem d_P_init_286 : decode m_P_init.2.1 286 = .ok (.getstatic 124, 3) := by decide +kernel
theorem d_P_init_289 : decode m_P_init.2.1 289 = .ok (.astore_n 3, 1) := by decide +kernel
theorem d_P_init_290 : decode m_P_init.2.1 290 = .ok (.aload_n 3, 1) := by decide +kernel
theorem d_P_init_291 : decode m_P_init.2.1 291 = .ok (.arraylength, 1) := by decide +kernel
theorem d_P_init_292 : decode m_P_init.2.1 292 = .ok (.istore 4, 2) := by decide +kernel
theorem d_P_init_294 : decode m_P_init.2.1 294 = .ok (.iconst 0, 1) := by decide +kernel
theorem d_P_init_295 : decode m_P_init.2.1 295 = .ok (.istore 5, 2) := by decide +kernel
theorem d_P_init_297 : decode m_P_init.2.1 297 = .ok (.iload 5, 2) := by decide +kernel
theorem d_P_init_299 : decode m_P_init.2.1 299 = .ok (.iload 4, 2) := by decide +kernel
theorem d_P_init_301 : decode m_P_init.2.1 301 = .ok (.if_icmp .ge 83, 3) := by decide +kernel
theorem d_P_init_304 : decode m_P_init.2.1 304 = .ok (.aload_n 3, 1) := by decide +kernel
theorem d_P_init_305 : decode m_P_init.2.1 305 = .ok (.iload 5, 2) := by decide +kernel
theorem d_P_init_307 : decode m_P_init.2.1 307 = .ok (.aaload, 1) := by decide +kernel
theorem d_P_init_308 : decode m_P_init.2.1 308 = .ok (.astore 6, 2) := by decide +kernel
theorem d_P_init_310 : decode m_P_init.2.1 310 = .ok (.aload 6, 2) := by decide +kernel
theorem d_P_init_312 : decode m_P_init.2.1 312 = .ok (.getfield 128, 3) := by decide +kernel
theorem d_P_init_315 : decode m_P_init.2.1 315 = .ok (.iconst 0, 1) := by decide +kernel
theorem d_P_init_316 : decode m_P_init.2.1 316 = .ok (.invokevirtual 133, 3) := by decide +kernel
theorem d_P_init_319 : decode m_P_init.2.1 319 = .ok (.aload 6, 2) := by decide +kernel
theorem d_P_init_321 : decode m_P_init.2.1 321 = .ok (.getfield 128, 3) := by decide +kernel
theorem d_P_init_324 : decode m_P_init.2.1 324 = .ok (.aload 6, 2) := by decide +kernel
theorem d_P_init_326 : decode m_P_init.2.1 326 = .ok (.getfield 128, 3) := by decide +kernel
theorem d_P_init_329 : decode m_P_init.2.1 329 = .ok (.invokevirtual 139, 3) := by decide +kernel
theorem d_P_init_332 : decode m_P_init.2.1 332 = .ok (.iconst 1, 1) := by decide +kernel
theorem d_P_init_333 : decode m_P_init.2.1 333 = .ok (.isub, 1) := by decide +kernel
theorem d_P_init_334 : decode m_P_init.2.1 334 = .ok (.invokevirtual 133, 3) := by decide +kernel
theorem d_P_init_337 : decode m_P_init.2.1 337 = .ok (.aload 6, 2) := by decide +kernel
theorem d_P_init_339 : decode m_P_init.2.1 339 = .ok (.getfield 128, 3) := by decide +kernel
theorem d_P_init_342 : decode m_P_init.2.1 342 = .ok (.invokevirtual 139, 3) := by decide +kernel
theorem d_P_init_345 : decode m_P_init.2.1 345 = .ok (.invokestatic 143, 3) := by decide +kernel
theorem d_P_init_348 : decode m_P_init.2.1 348 = .ok (.istore 7, 2) := by decide +kernel
theorem d_P_init_350 : decode m_P_init.2.1 350 = .ok (.aload_n 0, 1) := by decide +kernel
theorem d_P_init_351 : decode m_P_init.2.1 351 = .ok (.getfield 35, 3) := by decide +kernel
theorem d_P_init_354 : decode m_P_init.2.1 354 = .ok (.iload 7, 2) := by decide +kernel
theorem d_P_init_356 : decode m_P_init.2.1 356 = .ok (.new 33, 3) := by decide +kernel
theorem d_P_init_359 : decode m_P_init.2.1 359 = .ok (.dup, 1) := by decide +kernel
theorem d_P_init_360 : decode m_P_init.2.1 360 = .ok (.aload 6, 2) := by decide +kernel
theorem d_P_init_362 : decode m_P_init.2.1 362 = .ok (.getfield 128, 3) := by decide +kernel
theorem d_P_init_365 : decode m_P_init.2.1 365 = .ok (.aload 6, 2) := by decide +kernel
theorem d_P_init_367 : decode m_P_init.2.1 367 = .ok (.aload_n 0, 1) := by decide +kernel
theorem d_P_init_368 : decode m_P_init.2.1 368 = .ok (.getfield 35, 3) := by decide +kernel
theorem d_P_init_371 : decode m_P_init.2.1 371 = .ok (.iload 7, 2) := by decide +kernel
theorem d_P_init_373 : decode m_P_init.2.1 373 = .ok (.aaload, 1) := by decide +kernel
theorem d_P_init_374 : decode m_P_init.2.1 374 = .ok (.invokespecial 147, 3) := by decide +kernel
theorem d_P_init_377 : decode m_P_init.2.1 377 = .ok (.aastore, 1) := by decide +kernel
theorem d_P_init_378 : decode m_P_init.2.1 378 = .ok (.iinc 5 1, 3) := by decide +kernel
theorem d_P_init_381 : decode m_P_init.2.1 381 = .ok (.goto (-84), 3) := by decide +kernel
theorem d_P_init_384 : decode m_P_init.2.1 384 = .ok (.aload_n 0, 1) := by decide +kernel
theorem d_P_init_385 : decode m_P_init.2.1 385 = .ok (.getfield 66, 3) := by decide +kernel
theorem d_P_init_388 : decode m_P_init.2.1 388 = .ok (.new 70, 3) := by decide +kernel
theorem d_P_init_391 : decode m_P_init.2.1 391 = .ok (.dup, 1) := by decide +kernel
theorem d_P_init_392 : decode m_P_init.2.1 392 = .ok (.iconst 0, 1) := by decide +kernel
theorem d_P_init_393 : decode m_P_init.2.1 393 = .ok (.bipush 20, 2) := by decide +kernel
theorem d_P_init_395 : decode m_P_init.2.1 395 = .ok (.invokespecial 150, 3) := by decide +kernel
theorem d_P_init_398 : decode m_P_init.2.1 398 = .ok (.invokevirtual 153, 3) := by decide +kernel
theorem d_P_init_401 : decode m_P_init.2.1 401 = .ok (.pop, 1) := by decide +kernel
theorem d_P_init_402 : decode m_P_init.2.1 402 = .ok (.aload_n 0, 1) := by decide +kernel
theorem d_P_init_403 : decode m_P_init.2.1 403 = .ok (.getfield 72, 3) := by decide +kernel
theorem d_P_init_406 : decode m_P_init.2.1 406 = .ok (.iconst 0, 1) := by decide +kernel
theorem d_P_init_407 : decode m_P_init.2.1 407 = .ok (.aload_n 0, 1) := by decide +kernel
theorem d_P_init_408 : decode m_P_init.2.1 408 = .ok (.getfield 66, 3) := by decide +kernel
theorem d_P_init_411 : decode m_P_init.2.1 411 = .ok (.iconst 0, 1) := by decide +kernel
theorem d_P_init_412 : decode m_P_init.2.1 412 = .ok (.invokevirtual 157, 3) := by decide +kernel
theorem d_P_init_415 : decode m_P_init.2.1 415 = .ok (.checkcast 70, 3) := by decide +kernel
theorem d_P_init_418 : decode m_P_init.2.1 418 = .ok (.aastore, 1) := by decide +kernel
theorem d_P_init_419 : decode m_P_init.2.1 419 = .ok (.return_, 1) := by decide +kernel
theorem d_P_isLetter_0 : decode m_P_isLetter.2.1 0 = .ok (.aload_n 0, 1) := by decide +kernel
theorem d_P_isLetter_1 : decode m_P_isLetter.2.1 1 = .ok (.invokevirtual 398, 3) := by decide +kernel
theorem d_P_isLetter_4 : decode m_P_isLetter.2.1 4 = .ok (.bipush 97, 2) := by decide +kernel
theorem d_P_isLetter_6 : decode m_P_isLetter.2.1 6 = .ok (.if_icmp .lt 16, 3) := by decide +kernel
theorem d_P_isLetter_9 : decode m_P_isLetter.2.1 9 = .ok (.aload_n 0, 1) := by decide +kernel
theorem d_P_isLetter_10 : decode m_P_isLetter.2.1 10 = .ok (.invokevirtual 398, 3) := by decide +kernel
theorem d_P_isLetter_13 : decode m_P_isLetter.2.1 13 = .ok (.bipush 122, 2) := by decide +kernel
theorem d_P_isLetter_15 : decode m_P_isLetter.2.1 15 = .ok (.if_icmp .gt 7, 3) := by decide +kernel
theorem d_P_isLetter_18 : decode m_P_isLetter.2.1 18 = .ok (.iconst 1, 1) := by decide +kernel
theorem d_P_isLetter_19 : decode m_P_isLetter.2.1 19 = .ok (.goto 4, 3) := by decide +kernel
theorem d_P_isLetter_22 : decode m_P_isLetter.2.1 22 = .ok (.iconst 0, 1) := by decide +kernel
theorem d_P_isLetter_23 : decode m_P_isLetter.2.1 23 = .ok (.ireturn, 1) := by decide +kernel
theorem d_P_seen_0 : decode m_P_seen.2.1 0 = .ok (.iload_n 1, 1) := by decide +kernel
theorem d_P_seen_1 : decode m_P_seen.2.1 1 = .ok (.ifCond .lt 11, 3) := by decide +kernel
theorem d_P_seen_4 : decode m_P_seen.2.1 4 = .ok (.iload_n 1, 1) := by decide +kernel
theorem d_P_seen_5 : decode m_P_seen.2.1 5 = .ok (.aload_n 0, 1) := by decide +kernel
theorem d_P_seen_6 : decode m_P_seen.2.1 6 = .ok (.getfield 174, 3) := by decide +kernel
theorem d_P_seen_9 : decode m_P_seen.2.1 9 = .ok (.if_icmp .lt 11, 3) := by decide +kernel
theorem d_P_seen_12 : decode m_P_seen.2.1 12 = .ok (.new 494, 3) := by decide +kernel
theorem d_P_seen_15 : decode m_P_seen.2.1 15 = .ok (.dup, 1) := by decide +kernel
theorem d_P_seen_16 : decode m_P_seen.2.1 16 = .ok (.invokespecial 496, 3) := by decide +kernel
theorem d_P_seen_19 : decode m_P_seen.2.1 19 = .ok (.athrow, 1) := by decide +kernel
theorem d_P_seen_20 : decode m_P_seen.2.1 20 = .ok (.aload_n 0, 1) := by decide +kernel
theorem d_P_seen_21 : decode m_P_seen.2.1 21 = .ok (.iload_n 1, 1) := by decide +kernel
theorem d_P_seen_22 : decode m_P_seen.2.1 22 = .ok (.invokevirtual 203, 3) := by decide +kernel
theorem d_P_seen_25 : decode m_P_seen.2.1 25 = .ok (.areturn, 1) := by decide +kernel
theorem d_P_kind_0 : decode m_P_kind.2.1 0 = .ok (.aload_n 0, 1) := by decide +kernel
theorem d_P_kind_1 : decode m_P_kind.2.1 1 = .ok (.iload_n 1, 1) := by decide +kernel
theorem d_P_kind_2 : decode m_P_kind.2.1 2 = .ok (.invokevirtual 497, 3) := by decide +kernel
theorem d_P_kind_5 : decode m_P_kind.2.1 5 = .ok (.getfield 500, 3) := by decide +kernel
theorem d_P_kind_8 : decode m_P_kind.2.1 8 = .ok (.invokevirtual 503, 3) := by decide +kernel
theorem d_P_kind_11 : decode m_P_kind.2.1 11 = .ok (.aload_n 0, 1) := by decide +kernel
theorem d_P_kind_12 : decode m_P_kind.2.1 12 = .ok (.iload_n 1, 1) := by decide +kernel
theorem d_P_kind_13 : decode m_P_kind.2.1 13 = .ok (.invokevirtual 497, 3) := by decide +kernel
theorem d_P_kind_16 : decode m_P_kind.2.1 16 = .ok (.getfield 327, 3) := by decide +kernel
theorem d_P_kind_19 : decode m_P_kind.2.1 19 = .ok (.ifCond .eq 8, 3) := by decide +kernel
theorem d_P_kind_22 : decode m_P_kind.2.1 22 = .ok (.bipush 8, 2) := by decide +kernel
theorem d_P_kind_24 : decode m_P_kind.2.1 24 = .ok (.goto 4, 3) := by decide +kernel
theorem d_P_kind_27 : decode m_P_kind.2.1 27 = .ok (.iconst 0, 1) := by decide +kernel
theorem d_P_kind_28 : decode m_P_kind.2.1 28 = .ok (.iadd, 1) := by decide +kernel
theorem d_P_kind_29 : decode m_P_kind.2.1 29 = .ok (.ireturn, 1) := by decide +kernel
theorem d_String_init0_0 : decode m_String_init0.2.1 0 = .ok (.aload_n 0, 1) := by decide +kernel
theorem d_String_init0_1 : decode m_String_init0.2.1 1 = .ok (.invokespecial 1, 3) := by decide +kernel
theorem d_String_init0_4 : decode m_String_init0.2.1 4 = .ok (.aload_n 1, 1) := by decide +kernel
theorem d_String_init0_5 : decode m_String_init0.2.1 5 = .ok (.invokevirtual 552, 3) := by decide +kernel
theorem d_String_init0_8 : decode m_String_init0.2.1 8 = .ok (.astore_n 3, 1) := by decide +kernel
theorem d_String_init0_9 : decode m_String_init0.2.1 9 = .ok (.aload_n 1, 1) := by decide +kernel
theorem d_String_init0_10 : decode m_String_init0.2.1 10 = .ok (.invokevirtual 549, 3) := by decide +kernel
theorem d_String_init0_13 : decode m_String_init0.2.1 13 = .ok (.istore 4, 2) := by decide +kernel
theorem d_String_init0_15 : decode m_String_init0.2.1 15 = .ok (.aload_n 1, 1) := by decide +kernel
theorem d_String_init0_16 : decode m_String_init0.2.1 16 = .ok (.invokevirtual 1047, 3) := by decide +kernel
theorem d_String_init0_19 : decode m_String_init0.2.1 19 = .ok (.ifCond .eq 22, 3) := by decide +kernel
theorem d_String_init0_22 : decode m_String_init0.2.1 22 = .ok (.aload_n 0, 1) := by decide +kernel
theorem d_String_init0_23 : decode m_String_init0.2.1 23 = .ok (.iconst 0, 1) := by decide +kernel
theorem d_String_init0_24 : decode m_String_init0.2.1 24 = .ok (.putfield 15, 3) := by decide +kernel
theorem d_String_init0_27 : decode m_String_init0.2.1 27 = .ok (.aload_n 0, 1) := by decide +kernel
theorem d_String_init0_28 : decode m_String_init0.2.1 28 = .ok (.aload_n 3, 1) := by decide +kernel
theorem d_String_init0_29 : decode m_String_init0.2.1 29 = .ok (.iconst 0, 1) := by decide +kernel
theorem d_String_init0_30 : decode m_String_init0.2.1 30 = .ok (.iload 4, 2) := by decide +kernel
theorem d_String_init0_32 : decode m_String_init0.2.1 32 = .ok (.invokestatic 54, 3) := by decide +kernel
theorem d_String_init0_35 : decode m_String_init0.2.1 35 = .ok (.putfield 9, 3) := by decide +kernel
theorem d_String_init0_38 : decode m_String_init0.2.1 38 = .ok (.goto 59, 3) := by decide +kernel
theorem d_String_init0_41 : decode m_String_init0.2.1 41 = .ok (.getstatic 38, 3) := by decide +kernel
theorem d_String_init0_44 : decode m_String_init0.2.1 44 = .ok (.ifCond .eq 35, 3) := by decide +kernel
theorem d_String_init0_47 : decode m_String_init0.2.1 47 = .ok (.aload_n 1, 1) := by decide +kernel
theorem d_String_init0_48 : decode m_String_init0.2.1 48 = .ok (.getfield 1048, 3) := by decide +kernel
theorem d_String_init0_51 : decode m_String_init0.2.1 51 = .ok (.ifCond .eq 28, 3) := by decide +kernel
theorem d_String_init0_54 : decode m_String_init0.2.1 54 = .ok (.aload_n 0, 1) := by decide +kernel
theorem d_String_init0_55 : decode m_String_init0.2.1 55 = .ok (.aload_n 3, 1) := by decide +kernel
theorem d_String_init0_56 : decode m_String_init0.2.1 56 = .ok (.iconst 0, 1) := by decide +kernel
theorem d_String_init0_57 : decode m_String_init0.2.1 57 = .ok (.iload 4, 2) := by decide +kernel
theorem d_String_init0_59 : decode m_String_init0.2.1 59 = .ok (.invokestatic 1051, 3) := by decide +kernel
theorem d_String_init0_79 : decode m_String_init0.2.1 79 = .ok (.aload_n 0, 1) := by decide +kernel
theorem d_String_init0_80 : decode m_String_init0.2.1 80 = .ok (.iconst 1, 1) := by decide +kernel
theorem d_String_init0_81 : decode m_String_init0.2.1 81 = .ok (.putfield 15, 3) := by decide +kernel
theorem d_String_init0_84 : decode m_String_init0.2.1 84 = .ok (.aload_n 0, 1) := by decide +kernel
theorem d_String_init0_85 : decode m_String_init0.2.1 85 = .ok (.aload_n 3, 1) := by decide +kernel
theorem d_String_init0_86 : decode m_String_init0.2.1 86 = .ok (.iconst 0, 1) := by decide +kernel
theorem d_String_init0_87 : decode m_String_init0.2.1 87 = .ok (.iload 4, 2) := by decide +kernel
theorem d_String_init0_89 : decode m_String_init0.2.1 89 = .ok (.iconst 1, 1) := by decide +kernel
theorem d_String_init0_90 : decode m_String_init0.2.1 90 = .ok (.ishl, 1) := by decide +kernel
theorem d_String_init0_91 : decode m_String_init0.2.1 91 = .ok (.invokestatic 54, 3) := by decide +kernel
theorem d_String_init0_94 : decode m_String_init0.2.1 94 = .ok (.putfield 9, 3) := by decide +kernel
theorem d_String_init0_97 : decode m_String_init0.2.1 97 = .ok (.return_, 1) := by decide +kernel
theorem d_String_init1_0 : decode m_String_init1.2.1 0 = .ok (.aload_n 0, 1) := by decide +kernel
theorem d_String_init1_1 : decode m_String_init1.2.1 1 = .ok (.aload_n 1, 1) := by decide +kernel
theorem d_String_init1_2 : decode m_String_init1.2.1 2 = .ok (.aconst_null, 1) := by decide +kernel
theorem d_String_init1_3 : decode m_String_init1.2.1 3 = .ok (.invokespecial 489, 3) := by decide +kernel
theorem d_String_init1_6 : decode m_String_init1.2.1 6 = .ok (.return_, 1) := by decide +kernel
theorem d_StringBuilder_toString_0 : decode m_StringBuilder_toString.2.1 0 = .ok (.new 18, 3) := by decide +kernel
theorem d_StringBuilder_toString_3 : decode m_StringBuilder_toString.2.1 3 = .ok (.dup, 1) := by decide +kernel
theorem d_StringBuilder_toString_4 : decode m_StringBuilder_toString.2.1 4 = .ok (.aload_n 0, 1) := by decide +kernel
theorem d_StringBuilder_toString_5 : decode m_StringBuilder_toString.2.1 5 = .ok (.invokespecial 137, 3) := by decide +kernel
theorem d_StringBuilder_toString_8 : decode m_StringBuilder_toString.2.1 8 = .ok (.areturn, 1) := by decide +kernel
theorem d_P_known_0 : decode m_P_known.2.1 0 = .ok (.aload_n 0, 1) := by decide +kernel
theorem d_P_known_1 : decode m_P_known.2.1 1 = .ok (.getfield 48, 3) := by decide +kernel
theorem d_P_known_4 : decode m_P_known.2.1 4 = .ok (.invokevirtual 396, 3) := by decide +kernel
theorem d_P_known_7 : decode m_P_known.2.1 7 = .ok (.istore_n 1, 1) := by decide +kernel
theorem d_P_known_8 : decode m_P_known.2.1 8 = .ok (.aload_n 0, 1) := by decide +kernel
theorem d_P_known_9 : decode m_P_known.2.1 9 = .ok (.getfield 48, 3) := by decide +kernel
theorem d_P_known_12 : decode m_P_known.2.1 12 = .ok (.iconst 0, 1) := by decide +kernel
theorem d_P_known_13 : decode m_P_known.2.1 13 = .ok (.invokevirtual 397, 3) := by decide +kernel
theorem d_P_known_16 : decode m_P_known.2.1 16 = .ok (.aload_n 0, 1) := by decide +kernel
theorem d_P_known_17 : decode m_P_known.2.1 17 = .ok (.getfield 48, 3) := by decide +kernel
theorem d_P_known_20 : decode m_P_known.2.1 20 = .ok (.iload_n 1, 1) := by decide +kernel
theorem d_P_known_21 : decode m_P_known.2.1 21 = .ok (.iconst 1, 1) := by decide +kernel
theorem d_P_known_22 : decode m_P_known.2.1 22 = .ok (.isub, 1) := by decide +kernel
theorem d_P_known_23 : decode m_P_known.2.1 23 = .ok (.invokevirtual 397, 3) := by decide +kernel
theorem d_P_known_26 : decode m_P_known.2.1 26 = .ok (.iload_n 1, 1) := by decide +kernel
theorem d_P_known_27 : decode m_P_known.2.1 27 = .ok (.invokestatic 143, 3) := by decide +kernel
theorem d_P_known_30 : decode m_P_known.2.1 30 = .ok (.istore_n 2, 1) := by decide +kernel
theorem d_P_known_31 : decode m_P_known.2.1 31 = .ok (.aload_n 0, 1) := by decide +kernel
theorem d_P_known_32 : decode m_P_known.2.1 32 = .ok (.getfield 35, 3) := by decide +kernel
theorem d_P_known_35 : decode m_P_known.2.1 35 = .ok (.iload_n 2, 1) := by decide +kernel
theorem d_P_known_36 : decode m_P_known.2.1 36 = .ok (.aaload, 1) := by decide +kernel
theorem d_P_known_37 : decode m_P_known.2.1 37 = .ok (.astore_n 3, 1) := by decide +kernel
theorem d_P_known_38 : decode m_P_known.2.1 38 = .ok (.aload_n 3, 1) := by decide +kernel
theorem d_P_known_39 : decode m_P_known.2.1 39 = .ok (.ifnull 22, 3) := by decide +kernel
theorem d_P_known_42 : decode m_P_known.2.1 42 = .ok (.aload_n 3, 1) := by decide +kernel
theorem d_P_known_43 : decode m_P_known.2.1 43 = .ok (.aload_n 0, 1) := by decide +kernel
theorem d_P_known_44 : decode m_P_known.2.1 44 = .ok (.getfield 48, 3) := by decide +kernel
theorem d_P_known_47 : decode m_P_known.2.1 47 = .ok (.invokevirtual 459, 3) := by decide +kernel
theorem d_P_known_50 : decode m_P_known.2.1 50 = .ok (.ifCond .ne 11, 3) := by decide +kernel
theorem d_P_known_53 : decode m_P_known.2.1 53 = .ok (.aload_n 3, 1) := by decide +kernel
theorem d_P_known_54 : decode m_P_known.2.1 54 = .ok (.invokevirtual 462, 3) := by decide +kernel
theorem d_P_known_57 : decode m_P_known.2.1 57 = .ok (.astore_n 3, 1) := by decide +kernel
theorem d_P_known_58 : decode m_P_known.2.1 58 = .ok (.goto (-20), 3) := by decide +kernel
theorem d_P_known_61 : decode m_P_known.2.1 61 = .ok (.aload_n 3, 1) := by decide +kernel
theorem d_P_known_62 : decode m_P_known.2.1 62 = .ok (.ifnull 5, 3) := by decide +kernel
theorem d_P_known_65 : decode m_P_known.2.1 65 = .ok (.aload_n 3, 1) := by decide +kernel
theorem d_P_known_66 : decode m_P_known.2.1 66 = .ok (.areturn, 1) := by decide +kernel
theorem d_P_known_67 : decode m_P_known.2.1 67 = .ok (.aload_n 0, 1) := by decide +kernel
theorem d_P_known_68 : decode m_P_known.2.1 68 = .ok (.iload_n 1, 1) := by decide +kernel
theorem d_P_known_69 : decode m_P_known.2.1 69 = .ok (.bipush 8, 2) := by decide +kernel
theorem d_P_known_71 : decode m_P_known.2.1 71 = .ok (.if_icmp .gt 7, 3) := by decide +kernel
theorem d_P_known_74 : decode m_P_known.2.1 74 = .ok (.iconst 1, 1) := by decide +kernel
theorem d_P_known_75 : decode m_P_known.2.1 75 = .ok (.goto 4, 3) := by decide +kernel
theorem d_P_known_78 : decode m_P_known.2.1 78 = .ok (.iconst 0, 1) := by decide +kernel
theorem d_P_known_79 : decode m_P_known.2.1 79 = .ok (.bipush 15, 2) := by decide +kernel
theorem d_P_known_81 : decode m_P_known.2.1 81 = .ok (.invokevirtual 170, 3) := by decide +kernel
theorem d_P_known_84 : decode m_P_known.2.1 84 = .ok (.aload_n 0, 1) := by decide +kernel
theorem d_P_known_85 : decode m_P_known.2.1 85 = .ok (.aload_n 0, 1) := by decide +kernel
theorem d_P_known_86 : decode m_P_known.2.1 86 = .ok (.getfield 464, 3) := by decide +kernel
theorem d_P_known_89 : decode m_P_known.2.1 89 = .ok (.bipush 40, 2) := by decide +kernel
theorem d_P_known_91 : decode m_P_known.2.1 91 = .ok (.if_icmp .ge 7, 3) := by decide +kernel
theorem d_P_known_94 : decode m_P_known.2.1 94 = .ok (.iconst 1, 1) := by decide +kernel
theorem d_P_known_95 : decode m_P_known.2.1 95 = .ok (.goto 4, 3) := by decide +kernel
theorem d_P_known_98 : decode m_P_known.2.1 98 = .ok (.iconst 0, 1) := by decide +kernel
theorem d_P_known_99 : decode m_P_known.2.1 99 = .ok (.bipush 7, 2) := by decide +kernel
theorem d_P_known_101 : decode m_P_known.2.1 101 = .ok (.invokevirtual 170, 3) := by decide +kernel
theorem d_P_known_104 : decode m_P_known.2.1 104 = .ok (.aload_n 0, 1) := by decide +kernel
theorem d_P_known_105 : decode m_P_known.2.1 105 = .ok (.dup, 1) := by decide +kernel
theorem d_P_known_106 : decode m_P_known.2.1 106 = .ok (.getfield 464, 3) := by decide +kernel
theorem d_P_known_109 : decode m_P_known.2.1 109 = .ok (.iconst 1, 1) := by decide +kernel
theorem d_P_known_110 : decode m_P_known.2.1 110 = .ok (.iadd, 1) := by decide +kernel
theorem d_P_known_111 : decode m_P_known.2.1 111 = .ok (.putfield 464, 3) := by decide +kernel
theorem d_P_known_114 : decode m_P_known.2.1 114 = .ok (.aload_n 0, 1) := by decide +kernel
theorem d_P_known_115 : decode m_P_known.2.1 115 = .ok (.getfield 35, 3) := by decide +kernel
theorem d_P_known_118 : decode m_P_known.2.1 118 = .ok (.iload_n 2, 1) := by decide +kernel
theorem d_P_known_119 : decode m_P_known.2.1 119 = .ok (.new 33, 3) := by decide +kernel
theorem d_P_known_122 : decode m_P_known.2.1 122 = .ok (.dup, 1) := by decide +kernel
theorem d_P_known_123 : decode m_P_known.2.1 123 = .ok (.aload_n 0, 1) := by decide +kernel
theorem d_P_known_124 : decode m_P_known.2.1 124 = .ok (.getfield 48, 3) := by decide +kernel
theorem d_P_known_127 : decode m_P_known.2.1 127 = .ok (.invokevirtual 467, 3) := by decide +kernel
theorem d_P_known_130 : decode m_P_known.2.1 130 = .ok (.aconst_null, 1) := by decide +kernel
theorem d_P_known_131 : decode m_P_known.2.1 131 = .ok (.aload_n 0, 1) := by decide +kernel
theorem d_P_known_132 : decode m_P_known.2.1 132 = .ok (.getfield 35, 3) := by decide +kernel
theorem d_P_known_135 : decode m_P_known.2.1 135 = .ok (.iload_n 2, 1) := by decide +kernel
theorem d_P_known_136 : decode m_P_known.2.1 136 = .ok (.aaload, 1) := by decide +kernel
theorem d_P_known_137 : decode m_P_known.2.1 137 = .ok (.invokespecial 147, 3) := by decide +kernel
theorem d_P_known_140 : decode m_P_known.2.1 140 = .ok (.aastore, 1) := by decide +kernel
theorem d_P_known_141 : decode m_P_known.2.1 141 = .ok (.aload_n 0, 1) := by decide +kernel
theorem d_P_known_142 : decode m_P_known.2.1 142 = .ok (.getfield 35, 3) := by decide +kernel
theorem d_P_known_145 : decode m_P_known.2.1 145 = .ok (.iload_n 2, 1) := by decide +kernel
theorem d_P_known_146 : decode m_P_known.2.1 146 = .ok (.aaload, 1) := by decide +kernel
theorem d_P_known_147 : decode m_P_known.2.1 147 = .ok (.areturn, 1) := by decide +kernel
theorem d_P_letter_0 : decode m_P_letter.2.1 0 = .ok (.iload_n 1, 1) := by decide +kernel
theorem d_P_letter_1 : decode m_P_letter.2.1 1 = .ok (.ifCond .lt 25, 3) := by decide +kernel
theorem d_P_letter_4 : decode m_P_letter.2.1 4 = .ok (.iload_n 1, 1) := by decide +kernel
theorem d_P_letter_5 : decode m_P_letter.2.1 5 = .ok (.aload_n 0, 1) := by decide +kernel
theorem d_P_letter_6 : decode m_P_letter.2.1 6 = .ok (.getfield 174, 3) := by decide +kernel
theorem d_P_letter_9 : decode m_P_letter.2.1 9 = .ok (.if_icmp .ge 17, 3) := by decide +kernel
theorem d_P_letter_12 : decode m_P_letter.2.1 12 = .ok (.aload_n 0, 1) := by decide +kernel
theorem d_P_letter_13 : decode m_P_letter.2.1 13 = .ok (.iload_n 1, 1) := by decide +kernel
theorem d_P_letter_14 : decode m_P_letter.2.1 14 = .ok (.invokevirtual 203, 3) := by decide +kernel
theorem d_P_letter_17 : decode m_P_letter.2.1 17 = .ok (.getstatic 320, 3) := by decide +kernel
theorem d_P_letter_20 : decode m_P_letter.2.1 20 = .ok (.invokevirtual 323, 3) := by decide +kernel
theorem d_P_letter_23 : decode m_P_letter.2.1 23 = .ok (.ifCond .ne 5, 3) := by decide +kernel
theorem d_P_letter_26 : decode m_P_letter.2.1 26 = .ok (.iconst (-1), 1) := by decide +kernel
theorem d_P_letter_27 : decode m_P_letter.2.1 27 = .ok (.ireturn, 1) := by decide +kernel
theorem d_P_letter_28 : decode m_P_letter.2.1 28 = .ok (.aload_n 0, 1) := by decide +kernel
theorem d_P_letter_29 : decode m_P_letter.2.1 29 = .ok (.iload_n 1, 1) := by decide +kernel
theorem d_P_letter_30 : decode m_P_letter.2.1 30 = .ok (.invokevirtual 203, 3) := by decide +kernel
theorem d_P_letter_33 : decode m_P_letter.2.1 33 = .ok (.getfield 331, 3) := by decide +kernel
theorem d_P_letter_36 : decode m_P_letter.2.1 36 = .ok (.invokevirtual 512, 3) := by decide +kernel
theorem d_P_letter_39 : decode m_P_letter.2.1 39 = .ok (.astore_n 3, 1) := by decide +kernel
theorem d_P_letter_40 : decode m_P_letter.2.1 40 = .ok (.iload_n 2, 1) := by decide +kernel
theorem d_P_letter_41 : decode m_P_letter.2.1 41 = .ok (.ifCond .lt 11, 3) := by decide +kernel
theorem d_P_letter_44 : decode m_P_letter.2.1 44 = .ok (.iload_n 2, 1) := by decide +kernel
theorem d_P_letter_45 : decode m_P_letter.2.1 45 = .ok (.aload_n 3, 1) := by decide +kernel
theorem d_P_letter_46 : decode m_P_letter.2.1 46 = .ok (.invokevirtual 139, 3) := by decide +kernel
theorem d_P_letter_49 : decode m_P_letter.2.1 49 = .ok (.if_icmp .lt 7, 3) := by decide +kernel
theorem d_P_letter_52 : decode m_P_letter.2.1 52 = .ok (.iconst (-1), 1) := by decide +kernel
theorem d_P_letter_53 : decode m_P_letter.2.1 53 = .ok (.goto 8, 3) := by decide +kernel
theorem d_P_letter_56 : decode m_P_letter.2.1 56 = .ok (.aload_n 3, 1) := by decide +kernel
theorem d_P_letter_57 : decode m_P_letter.2.1 57 = .ok (.iload_n 2, 1) := by decide +kernel
theorem d_P_letter_58 : decode m_P_letter.2.1 58 = .ok (.invokevirtual 133, 3) := by decide +kernel
theorem d_P_letter_61 : decode m_P_letter.2.1 61 = .ok (.ireturn, 1) := by decide +kernel
theorem d_P_number_0 : decode m_P_number.2.1 0 = .ok (.aload_n 0, 1) := by decide +kernel
theorem d_P_number_1 : decode m_P_number.2.1 1 = .ok (.iload_n 1, 1) := by decide +kernel
theorem d_P_number_2 : decode m_P_number.2.1 2 = .ok (.invokevirtual 497, 3) := by decide +kernel
theorem d_P_number_5 : decode m_P_number.2.1 5 = .ok (.astore_n 2, 1) := by decide +kernel
theorem d_P_number_6 : decode m_P_number.2.1 6 = .ok (.aload_n 2, 1) := by decide +kernel
theorem d_P_number_7 : decode m_P_number.2.1 7 = .ok (.getstatic 506, 3) := by decide +kernel
theorem d_P_number_10 : decode m_P_number.2.1 10 = .ok (.invokevirtual 323, 3) := by decide +kernel
theorem d_P_number_13 : decode m_P_number.2.1 13 = .ok (.ifCond .eq 11, 3) := by decide +kernel
theorem d_P_number_16 : decode m_P_number.2.1 16 = .ok (.new 509, 3) := by decide +kernel
theorem d_P_number_19 : decode m_P_number.2.1 19 = .ok (.dup, 1) := by decide +kernel
theorem d_P_number_20 : decode m_P_number.2.1 20 = .ok (.invokespecial 511, 3) := by decide +kernel
theorem d_P_number_23 : decode m_P_number.2.1 23 = .ok (.athrow, 1) := by decide +kernel
theorem d_P_number_24 : decode m_P_number.2.1 24 = .ok (.aload_n 2, 1) := by decide +kernel
theorem d_P_number_25 : decode m_P_number.2.1 25 = .ok (.getstatic 451, 3) := by decide +kernel
theorem d_P_number_28 : decode m_P_number.2.1 28 = .ok (.invokevirtual 323, 3) := by decide +kernel
theorem d_P_number_31 : decode m_P_number.2.1 31 = .ok (.ifCond .eq 10, 3) := by decide +kernel
theorem d_P_number_34 : decode m_P_number.2.1 34 = .ok (.aload_n 2, 1) := by decide +kernel
theorem d_P_number_35 : decode m_P_number.2.1 35 = .ok (.getfield 358, 3) := by decide +kernel
theorem d_P_number_38 : decode m_P_number.2.1 38 = .ok (.goto 30, 3) := by decide +kernel
theorem d_P_number_41 : decode m_P_number.2.1 41 = .ok (.aload_n 2, 1) := by decide +kernel
theorem d_P_number_42 : decode m_P_number.2.1 42 = .ok (.getstatic 320, 3) := by decide +kernel
theorem d_P_number_45 : decode m_P_number.2.1 45 = .ok (.invokevirtual 323, 3) := by decide +kernel
theorem d_P_number_48 : decode m_P_number.2.1 48 = .ok (.ifCond .eq 16, 3) := by decide +kernel
theorem d_P_number_51 : decode m_P_number.2.1 51 = .ok (.aload_n 2, 1) := by decide +kernel
theorem d_P_number_52 : decode m_P_number.2.1 52 = .ok (.getfield 331, 3) := by decide +kernel
theorem d_P_number_55 : decode m_P_number.2.1 55 = .ok (.invokevirtual 512, 3) := by decide +kernel
theorem d_P_number_58 : decode m_P_number.2.1 58 = .ok (.invokevirtual 139, 3) := by decide +kernel
theorem d_P_number_61 : decode m_P_number.2.1 61 = .ok (.goto 7, 3) := by decide +kernel
theorem d_P_number_64 : decode m_P_number.2.1 64 = .ok (.aload_n 2, 1) := by decide +kernel
theorem d_P_number_65 : decode m_P_number.2.1 65 = .ok (.getfield 355, 3) := by decide +kernel
theorem d_P_number_68 : decode m_P_number.2.1 68 = .ok (.ireturn, 1) := by decide +kernel
theorem d_P_numeral_0 : decode m_P_numeral.2.1 0 = .ok (.aload_n 0, 1) := by decide +kernel
theorem d_P_numeral_1 : decode m_P_numeral.2.1 1 = .ok (.invokevirtual 398, 3) := by decide +kernel
theorem d_P_numeral_4 : decode m_P_numeral.2.1 4 = .ok (.bipush 45, 2) := by decide +kernel
theorem d_P_numeral_6 : decode m_P_numeral.2.1 6 = .ok (.if_icmp .ne 7, 3) := by decide +kernel
theorem d_P_numeral_9 : decode m_P_numeral.2.1 9 = .ok (.iconst 1, 1) := by decide +kernel
theorem d_P_numeral_10 : decode m_P_numeral.2.1 10 = .ok (.goto 4, 3) := by decide +kernel
theorem d_P_numeral_13 : decode m_P_numeral.2.1 13 = .ok (.iconst 0, 1) := by decide +kernel
theorem d_P_numeral_14 : decode m_P_numeral.2.1 14 = .ok (.istore_n 2, 1) := by decide +kernel
theorem d_P_numeral_15 : decode m_P_numeral.2.1 15 = .ok (.aload_n 0, 1) := by decide +kernel
theorem d_P_numeral_16 : decode m_P_numeral.2.1 16 = .ok (.dup, 1) := by decide +kernel
theorem d_P_numeral_17 : decode m_P_numeral.2.1 17 = .ok (.getfield 393, 3) := by decide +kernel
theorem d_P_numeral_20 : decode m_P_numeral.2.1 20 = .ok (.iload_n 2, 1) := by decide +kernel
theorem d_P_numeral_21 : decode m_P_numeral.2.1 21 = .ok (.ifCond .eq 7, 3) := by decide +kernel
theorem d_P_numeral_24 : decode m_P_numeral.2.1 24 = .ok (.iconst 1, 1) := by decide +kernel
theorem d_P_numeral_25 : decode m_P_numeral.2.1 25 = .ok (.goto 4, 3) := by decide +kernel
theorem d_P_numeral_28 : decode m_P_numeral.2.1 28 = .ok (.iconst 0, 1) := by decide +kernel
theorem d_P_numeral_29 : decode m_P_numeral.2.1 29 = .ok (.iadd, 1) := by decide +kernel
theorem d_P_numeral_30 : decode m_P_numeral.2.1 30 = .ok (.putfield 393, 3) := by decide +kernel
theorem d_P_numeral_33 : decode m_P_numeral.2.1 33 = .ok (.aload_n 0, 1) := by decide +kernel
theorem d_P_numeral_34 : decode m_P_numeral.2.1 34 = .ok (.bipush 9, 2) := by decide +kernel
theorem d_P_numeral_36 : decode m_P_numeral.2.1 36 = .ok (.invokevirtual 454, 3) := by decide +kernel
theorem d_P_numeral_39 : decode m_P_numeral.2.1 39 = .ok (.istore_n 3, 1) := by decide +kernel
theorem d_P_numeral_40 : decode m_P_numeral.2.1 40 = .ok (.aload_n 0, 1) := by decide +kernel
theorem d_P_numeral_41 : decode m_P_numeral.2.1 41 = .ok (.invokevirtual 398, 3) := by decide +kernel
theorem d_P_numeral_44 : decode m_P_numeral.2.1 44 = .ok (.bipush 46, 2) := by decide +kernel
theorem d_P_numeral_46 : decode m_P_numeral.2.1 46 = .ok (.if_icmp .ne 42, 3) := by decide +kernel
theorem d_P_numeral_49 : decode m_P_numeral.2.1 49 = .ok (.aload_n 0, 1) := by decide +kernel
theorem d_P_numeral_50 : decode m_P_numeral.2.1 50 = .ok (.getfield 393, 3) := by decide +kernel
theorem d_P_numeral_53 : decode m_P_numeral.2.1 53 = .ok (.iconst 1, 1) := by decide +kernel
theorem d_P_numeral_54 : decode m_P_numeral.2.1 54 = .ok (.iadd, 1) := by decide +kernel
theorem d_P_numeral_55 : decode m_P_numeral.2.1 55 = .ok (.aload_n 0, 1) := by decide +kernel
theorem d_P_numeral_56 : decode m_P_numeral.2.1 56 = .ok (.getfield 44, 3) := by decide +kernel
theorem d_P_numeral_59 : decode m_P_numeral.2.1 59 = .ok (.invokevirtual 396, 3) := by decide +kernel
theorem d_P_numeral_62 : decode m_P_numeral.2.1 62 = .ok (.if_icmp .ge 26, 3) := by decide +kernel
theorem d_P_numeral_65 : decode m_P_numeral.2.1 65 = .ok (.aload_n 0, 1) := by decide +kernel
theorem d_P_numeral_66 : decode m_P_numeral.2.1 66 = .ok (.getfield 44, 3) := by decide +kernel
theorem d_P_numeral_69 : decode m_P_numeral.2.1 69 = .ok (.aload_n 0, 1) := by decide +kernel
theorem d_P_numeral_70 : decode m_P_numeral.2.1 70 = .ok (.getfield 393, 3) := by decide +kernel
theorem d_P_numeral_73 : decode m_P_numeral.2.1 73 = .ok (.iconst 1, 1) := by decide +kernel
theorem d_P_numeral_74 : decode m_P_numeral.2.1 74 = .ok (.iadd, 1) := by decide +kernel
theorem d_P_numeral_75 : decode m_P_numeral.2.1 75 = .ok (.invokevirtual 397, 3) := by decide +kernel
theorem d_P_numeral_78 : decode m_P_numeral.2.1 78 = .ok (.invokestatic 419, 3) := by decide +kernel
theorem d_P_numeral_81 : decode m_P_numeral.2.1 81 = .ok (.ifCond .eq 7, 3) := by decide +kernel
theorem d_P_numeral_84 : decode m_P_numeral.2.1 84 = .ok (.iconst 1, 1) := by decide +kernel
theorem d_P_numeral_85 : decode m_P_numeral.2.1 85 = .ok (.goto 4, 3) := by decide +kernel
theorem d_P_numeral_88 : decode m_P_numeral.2.1 88 = .ok (.iconst 0, 1) := by decide +kernel
theorem d_P_numeral_89 : decode m_P_numeral.2.1 89 = .ok (.istore 4, 2) := by decide +kernel
theorem d_P_numeral_91 : decode m_P_numeral.2.1 91 = .ok (.iload 4, 2) := by decide +kernel
theorem d_P_numeral_93 : decode m_P_numeral.2.1 93 = .ok (.ifCond .ne 23, 3) := by decide +kernel
theorem d_P_numeral_96 : decode m_P_numeral.2.1 96 = .ok (.aload_n 1, 1) := by decide +kernel
theorem d_P_numeral_97 : decode m_P_numeral.2.1 97 = .ok (.getstatic 221, 3) := by decide +kernel
theorem d_P_numeral_100 : decode m_P_numeral.2.1 100 = .ok (.iload_n 2, 1) := by decide +kernel
theorem d_P_numeral_101 : decode m_P_numeral.2.1 101 = .ok (.ifCond .eq 8, 3) := by decide +kernel
theorem d_P_numeral_104 : decode m_P_numeral.2.1 104 = .ok (.iload_n 3, 1) := by decide +kernel
theorem d_P_numeral_105 : decode m_P_numeral.2.1 105 = .ok (.ineg, 1) := by decide +kernel
theorem d_P_numeral_106 : decode m_P_numeral.2.1 106 = .ok (.goto 4, 3) := by decide +kernel
theorem d_P_numeral_109 : decode m_P_numeral.2.1 109 = .ok (.iload_n 3, 1) := by decide +kernel
theorem d_P_numeral_110 : decode m_P_numeral.2.1 110 = .ok (.iconst 0, 1) := by decide +kernel
theorem d_P_numeral_111 : decode m_P_numeral.2.1 111 = .ok (.iconst 0, 1) := by decide +kernel
theorem d_P_numeral_112 : decode m_P_numeral.2.1 112 = .ok (.invokevirtual 186, 3) := by decide +kernel
theorem d_P_numeral_115 : decode m_P_numeral.2.1 115 = .ok (.return_, 1) := by decide +kernel
theorem d_P_numeral_116 : decode m_P_numeral.2.1 116 = .ok (.aload_n 0, 1) := by decide +kernel
theorem d_P_numeral_117 : decode m_P_numeral.2.1 117 = .ok (.dup, 1) := by decide +kernel
theorem d_P_numeral_118 : decode m_P_numeral.2.1 118 = .ok (.getfield 393, 3) := by decide +kernel
theorem d_P_numeral_121 : decode m_P_numeral.2.1 121 = .ok (.iconst 1, 1) := by decide +kernel
theorem d_P_numeral_122 : decode m_P_numeral.2.1 122 = .ok (.iadd, 1) := by decide +kernel
theorem d_P_numeral_123 : decode m_P_numeral.2.1 123 = .ok (.putfield 393, 3) := by decide +kernel
theorem d_P_numeral_126 : decode m_P_numeral.2.1 126 = .ok (.aload_n 0, 1) := by decide +kernel
theorem d_P_numeral_127 : decode m_P_numeral.2.1 127 = .ok (.getfield 393, 3) := by decide +kernel
theorem d_P_numeral_130 : decode m_P_numeral.2.1 130 = .ok (.istore 5, 2) := by decide +kernel
theorem d_P_numeral_132 : decode m_P_numeral.2.1 132 = .ok (.aload_n 0, 1) := by decide +kernel
theorem d_P_numeral_133 : decode m_P_numeral.2.1 133 = .ok (.iconst 4, 1) := by decide +kernel
theorem d_P_numeral_134 : decode m_P_numeral.2.1 134 = .ok (.invokevirtual 454, 3) := by decide +kernel
theorem d_P_numeral_137 : decode m_P_numeral.2.1 137 = .ok (.istore 6, 2) := by decide +kernel
theorem d_P_numeral_139 : decode m_P_numeral.2.1 139 = .ok (.dconst 1, 1) := by decide +kernel
theorem d_P_numeral_140 : decode m_P_numeral.2.1 140 = .ok (.dstore 7, 2) := by decide +kernel
theorem d_P_numeral_142 : decode m_P_numeral.2.1 142 = .ok (.iload 5, 2) := by decide +kernel
theorem d_P_numeral_144 : decode m_P_numeral.2.1 144 = .ok (.istore 9, 2) := by decide +kernel
theorem d_P_numeral_146 : decode m_P_numeral.2.1 146 = .ok (.iload 9, 2) := by decide +kernel
theorem d_P_numeral_148 : decode m_P_numeral.2.1 148 = .ok (.aload_n 0, 1) := by decide +kernel
theorem d_P_numeral_149 : decode m_P_numeral.2.1 149 = .ok (.getfield 393, 3) := by decide +kernel
theorem d_P_numeral_152 : decode m_P_numeral.2.1 152 = .ok (.if_icmp .ge 17, 3) := by decide +kernel
theorem d_P_numeral_155 : decode m_P_numeral.2.1 155 = .ok (.dload 7, 2) := by decide +kernel
theorem d_P_numeral_157 : decode m_P_numeral.2.1 157 = .ok (.ldc2_w 457, 3) := by decide +kernel
theorem d_P_numeral_160 : decode m_P_numeral.2.1 160 = .ok (.dmul, 1) := by decide +kernel
theorem d_P_numeral_161 : decode m_P_numeral.2.1 161 = .ok (.dstore 7, 2) := by decide +kernel
theorem d_P_numeral_163 : decode m_P_numeral.2.1 163 = .ok (.iinc 9 1, 3) := by decide +kernel
theorem d_P_numeral_166 : decode m_P_numeral.2.1 166 = .ok (.goto (-20), 3) := by decide +kernel
theorem d_P_numeral_169 : decode m_P_numeral.2.1 169 = .ok (.iload_n 3, 1) := by decide +kernel
theorem d_P_numeral_170 : decode m_P_numeral.2.1 170 = .ok (.i2d, 1) := by decide +kernel
theorem d_P_numeral_171 : decode m_P_numeral.2.1 171 = .ok (.iload 6, 2) := by decide +kernel
theorem d_P_numeral_173 : decode m_P_numeral.2.1 173 = .ok (.i2d, 1) := by decide +kernel
theorem d_P_numeral_174 : decode m_P_numeral.2.1 174 = .ok (.dload 7, 2) := by decide +kernel
theorem d_P_numeral_176 : decode m_P_numeral.2.1 176 = .ok (.ddiv, 1) := by decide +kernel
theorem d_P_numeral_177 : decode m_P_numeral.2.1 177 = .ok (.dadd, 1) := by decide +kernel
theorem d_P_numeral_178 : decode m_P_numeral.2.1 178 = .ok (.dstore 9, 2) := by decide +kernel
theorem d_P_numeral_180 : decode m_P_numeral.2.1 180 = .ok (.aload_n 1, 1) := by decide +kernel
theorem d_P_numeral_181 : decode m_P_numeral.2.1 181 = .ok (.iload_n 2, 1) := by decide +kernel
theorem d_P_numeral_182 : decode m_P_numeral.2.1 182 = .ok (.ifCond .eq 10, 3) := by decide +kernel
theorem d_P_numeral_185 : decode m_P_numeral.2.1 185 = .ok (.dconst 0, 1) := by decide +kernel
theorem d_P_numeral_186 : decode m_P_numeral.2.1 186 = .ok (.dload 9, 2) := by decide +kernel
theorem d_P_numeral_188 : decode m_P_numeral.2.1 188 = .ok (.dsub, 1) := by decide +kernel
theorem d_P_numeral_189 : decode m_P_numeral.2.1 189 = .ok (.goto 5, 3) := by decide +kernel
theorem d_P_numeral_192 : decode m_P_numeral.2.1 192 = .ok (.dload 9, 2) := by decide +kernel
theorem d_P_numeral_194 : decode m_P_numeral.2.1 194 = .ok (.invokevirtual 217, 3) := by decide +kernel
theorem d_P_numeral_197 : decode m_P_numeral.2.1 197 = .ok (.return_, 1) := by decide +kernel
theorem d_P_page_0 : decode m_P_page.2.1 0 = .ok (.iconst 0, 1) := by decide +kernel
theorem d_P_page_1 : decode m_P_page.2.1 1 = .ok (.istore_n 1, 1) := by decide +kernel
theorem d_P_page_2 : decode m_P_page.2.1 2 = .ok (.iconst 0, 1) := by decide +kernel
theorem d_P_page_3 : decode m_P_page.2.1 3 = .ok (.istore_n 2, 1) := by decide +kernel
theorem d_P_page_4 : decode m_P_page.2.1 4 = .ok (.iload_n 2, 1) := by decide +kernel
theorem d_P_page_5 : decode m_P_page.2.1 5 = .ok (.aload_n 0, 1) := by decide +kernel
theorem d_P_page_6 : decode m_P_page.2.1 6 = .ok (.getfield 121, 3) := by decide +kernel
theorem d_P_page_9 : decode m_P_page.2.1 9 = .ok (.if_icmp .ge 53, 3) := by decide +kernel
theorem d_P_page_12 : decode m_P_page.2.1 12 = .ok (.iconst 0, 1) := by decide +kernel
theorem d_P_page_13 : decode m_P_page.2.1 13 = .ok (.istore_n 3, 1) := by decide +kernel
theorem d_P_page_14 : decode m_P_page.2.1 14 = .ok (.iload_n 3, 1) := by decide +kernel
theorem d_P_page_15 : decode m_P_page.2.1 15 = .ok (.aload_n 0, 1) := by decide +kernel
theorem d_P_page_16 : decode m_P_page.2.1 16 = .ok (.getfield 118, 3) := by decide +kernel
theorem d_P_page_19 : decode m_P_page.2.1 19 = .ok (.if_icmp .ge 37, 3) := by decide +kernel
theorem d_P_page_22 : decode m_P_page.2.1 22 = .ok (.iload_n 1, 1) := by decide +kernel
theorem d_P_page_23 : decode m_P_page.2.1 23 = .ok (.aload_n 0, 1) := by decide +kernel
theorem d_P_page_24 : decode m_P_page.2.1 24 = .ok (.getfield 115, 3) := by decide +kernel
theorem d_P_page_27 : decode m_P_page.2.1 27 = .ok (.iload_n 2, 1) := by decide +kernel
theorem d_P_page_28 : decode m_P_page.2.1 28 = .ok (.aaload, 1) := by decide +kernel
theorem d_P_page_29 : decode m_P_page.2.1 29 = .ok (.iload_n 3, 1) := by decide +kernel
theorem d_P_page_30 : decode m_P_page.2.1 30 = .ok (.baload, 1) := by decide +kernel
theorem d_P_page_31 : decode m_P_page.2.1 31 = .ok (.ifCond .le 7, 3) := by decide +kernel
theorem d_P_page_34 : decode m_P_page.2.1 34 = .ok (.iconst 1, 1) := by decide +kernel
theorem d_P_page_35 : decode m_P_page.2.1 35 = .ok (.goto 4, 3) := by decide +kernel
theorem d_P_page_38 : decode m_P_page.2.1 38 = .ok (.iconst 0, 1) := by decide +kernel
theorem d_P_page_39 : decode m_P_page.2.1 39 = .ok (.iadd, 1) := by decide +kernel
theorem d_P_page_40 : decode m_P_page.2.1 40 = .ok (.istore_n 1, 1) := by decide +kernel
theorem d_P_page_41 : decode m_P_page.2.1 41 = .ok (.aload_n 0, 1) := by decide +kernel
theorem d_P_page_42 : decode m_P_page.2.1 42 = .ok (.getfield 115, 3) := by decide +kernel
theorem d_P_page_45 : decode m_P_page.2.1 45 = .ok (.iload_n 2, 1) := by decide +kernel
theorem d_P_page_46 : decode m_P_page.2.1 46 = .ok (.aaload, 1) := by decide +kernel
theorem d_P_page_47 : decode m_P_page.2.1 47 = .ok (.iload_n 3, 1) := by decide +kernel
theorem d_P_page_48 : decode m_P_page.2.1 48 = .ok (.iconst 0, 1) := by decide +kernel
theorem d_P_page_49 : decode m_P_page.2.1 49 = .ok (.bastore, 1) := by decide +kernel
theorem d_P_page_50 : decode m_P_page.2.1 50 = .ok (.iinc 3 1, 3) := by decide +kernel
theorem d_P_page_53 : decode m_P_page.2.1 53 = .ok (.goto (-39), 3) := by decide +kernel
theorem d_P_page_56 : decode m_P_page.2.1 56 = .ok (.iinc 2 1, 3) := by decide +kernel
theorem d_P_page_59 : decode m_P_page.2.1 59 = .ok (.goto (-55), 3) := by decide +kernel
theorem d_P_page_62 : decode m_P_page.2.1 62 = .ok (.iload_n 1, 1) := by decide +kernel
theorem d_P_page_63 : decode m_P_page.2.1 63 = .ok (.ireturn, 1) := by decide +kernel
theorem d_P_pixel_0 : decode m_P_pixel.2.1 0 = .ok (.iload_n 1, 1) := by decide +kernel
theorem d_P_pixel_1 : decode m_P_pixel.2.1 1 = .ok (.ifCond .lt 23, 3) := by decide +kernel
theorem d_P_pixel_4 : decode m_P_pixel.2.1 4 = .ok (.iload_n 1, 1) := by decide +kernel
theorem d_P_pixel_5 : decode m_P_pixel.2.1 5 = .ok (.aload_n 0, 1) := by decide +kernel
theorem d_P_pixel_6 : decode m_P_pixel.2.1 6 = .ok (.getfield 118, 3) := by decide +kernel
theorem d_P_pixel_9 : decode m_P_pixel.2.1 9 = .ok (.if_icmp .ge 15, 3) := by decide +kernel
theorem d_P_pixel_12 : decode m_P_pixel.2.1 12 = .ok (.iload_n 2, 1) := by decide +kernel
theorem d_P_pixel_13 : decode m_P_pixel.2.1 13 = .ok (.ifCond .lt 11, 3) := by decide +kernel
theorem d_P_pixel_16 : decode m_P_pixel.2.1 16 = .ok (.iload_n 2, 1) := by decide +kernel
theorem d_P_pixel_17 : decode m_P_pixel.2.1 17 = .ok (.aload_n 0, 1) := by decide +kernel
theorem d_P_pixel_18 : decode m_P_pixel.2.1 18 = .ok (.getfield 121, 3) := by decide +kernel
theorem d_P_pixel_21 : decode m_P_pixel.2.1 21 = .ok (.if_icmp .lt 7, 3) := by decide +kernel
theorem d_P_pixel_24 : decode m_P_pixel.2.1 24 = .ok (.iconst (-1), 1) := by decide +kernel
theorem d_P_pixel_25 : decode m_P_pixel.2.1 25 = .ok (.goto 11, 3) := by decide +kernel
theorem d_P_pixel_28 : decode m_P_pixel.2.1 28 = .ok (.aload_n 0, 1) := by decide +kernel
theorem d_P_pixel_29 : decode m_P_pixel.2.1 29 = .ok (.getfield 115, 3) := by decide +kernel
theorem d_P_pixel_32 : decode m_P_pixel.2.1 32 = .ok (.iload_n 2, 1) := by decide +kernel
theorem d_P_pixel_33 : decode m_P_pixel.2.1 33 = .ok (.aaload, 1) := by decide +kernel
theorem d_P_pixel_34 : decode m_P_pixel.2.1 34 = .ok (.iload_n 1, 1) := by decide +kernel
theorem d_P_pixel_35 : decode m_P_pixel.2.1 35 = .ok (.baload, 1) := by decide +kernel
theorem d_P_pixel_36 : decode m_P_pixel.2.1 36 = .ok (.ireturn, 1) := by decide +kernel
theorem d_P_procedure_0 : decode m_P_procedure.2.1 0 = .ok (.aload_n 0, 1) := by decide +kernel
theorem d_P_procedure_1 : decode m_P_procedure.2.1 1 = .ok (.iload_n 1, 1) := by decide +kernel
theorem d_P_procedure_2 : decode m_P_procedure.2.1 2 = .ok (.iconst 4, 1) := by decide +kernel
theorem d_P_procedure_3 : decode m_P_procedure.2.1 3 = .ok (.if_icmp .gt 7, 3) := by decide +kernel
theorem d_P_procedure_6 : decode m_P_procedure.2.1 6 = .ok (.iconst 1, 1) := by decide +kernel
theorem d_P_procedure_7 : decode m_P_procedure.2.1 7 = .ok (.goto 4, 3) := by decide +kernel
theorem d_P_procedure_10 : decode m_P_procedure.2.1 10 = .ok (.iconst 0, 1) := by decide +kernel
theorem d_P_procedure_11 : decode m_P_procedure.2.1 11 = .ok (.bipush 12, 2) := by decide +kernel
theorem d_P_procedure_13 : decode m_P_procedure.2.1 13 = .ok (.invokevirtual 170, 3) := by decide +kernel
theorem d_P_procedure_16 : decode m_P_procedure.2.1 16 = .ok (.aload_n 0, 1) := by decide +kernel
theorem d_P_procedure_17 : decode m_P_procedure.2.1 17 = .ok (.dup, 1) := by decide +kernel
theorem d_P_procedure_18 : decode m_P_procedure.2.1 18 = .ok (.getfield 393, 3) := by decide +kernel
theorem d_P_procedure_21 : decode m_P_procedure.2.1 21 = .ok (.iconst 1, 1) := by decide +kernel
theorem d_P_procedure_22 : decode m_P_procedure.2.1 22 = .ok (.iadd, 1) := by decide +kernel
theorem d_P_procedure_23 : decode m_P_procedure.2.1 23 = .ok (.putfield 393, 3) := by decide +kernel
theorem d_P_procedure_26 : decode m_P_procedure.2.1 26 = .ok (.aload_n 0, 1) := by decide +kernel
theorem d_P_procedure_27 : decode m_P_procedure.2.1 27 = .ok (.getfield 405, 3) := by decide +kernel
theorem d_P_procedure_30 : decode m_P_procedure.2.1 30 = .ok (.istore_n 2, 1) := by decide +kernel
theorem d_P_procedure_31 : decode m_P_procedure.2.1 31 = .ok (.aload_n 0, 1) := by decide +kernel
theorem d_P_procedure_32 : decode m_P_procedure.2.1 32 = .ok (.invokevirtual 402, 3) := by decide +kernel
theorem d_P_procedure_35 : decode m_P_procedure.2.1 35 = .ok (.aload_n 0, 1) := by decide +kernel
theorem d_P_procedure_36 : decode m_P_procedure.2.1 36 = .ok (.invokevirtual 398, 3) := by decide +kernel
theorem d_P_procedure_39 : decode m_P_procedure.2.1 39 = .ok (.bipush 125, 2) := by decide +kernel
theorem d_P_procedure_41 : decode m_P_procedure.2.1 41 = .ok (.if_icmp .eq 41, 3) := by decide +kernel
theorem d_P_procedure_44 : decode m_P_procedure.2.1 44 = .ok (.aload_n 0, 1) := by decide +kernel
theorem d_P_procedure_45 : decode m_P_procedure.2.1 45 = .ok (.aload_n 0, 1) := by decide +kernel
theorem d_P_procedure_46 : decode m_P_procedure.2.1 46 = .ok (.getfield 393, 3) := by decide +kernel
theorem d_P_procedure_49 : decode m_P_procedure.2.1 49 = .ok (.aload_n 0, 1) := by decide +kernel
theorem d_P_procedure_50 : decode m_P_procedure.2.1 50 = .ok (.getfield 44, 3) := by decide +kernel
theorem d_P_procedure_53 : decode m_P_procedure.2.1 53 = .ok (.invokevirtual 396, 3) := by decide +kernel
theorem d_P_procedure_56 : decode m_P_procedure.2.1 56 = .ok (.if_icmp .ge 7, 3) := by decide +kernel
theorem d_P_procedure_59 : decode m_P_procedure.2.1 59 = .ok (.iconst 1, 1) := by decide +kernel
theorem d_P_procedure_60 : decode m_P_procedure.2.1 60 = .ok (.goto 4, 3) := by decide +kernel
theorem d_P_procedure_63 : decode m_P_procedure.2.1 63 = .ok (.iconst 0, 1) := by decide +kernel
theorem d_P_procedure_64 : decode m_P_procedure.2.1 64 = .ok (.bipush 15, 2) := by decide +kernel
theorem d_P_procedure_66 : decode m_P_procedure.2.1 66 = .ok (.invokevirtual 170, 3) := by decide +kernel
theorem d_P_procedure_69 : decode m_P_procedure.2.1 69 = .ok (.aload_n 0, 1) := by decide +kernel
theorem d_P_procedure_70 : decode m_P_procedure.2.1 70 = .ok (.iload_n 1, 1) := by decide +kernel
theorem d_P_procedure_71 : decode m_P_procedure.2.1 71 = .ok (.invokevirtual 408, 3) := by decide +kernel
theorem d_P_procedure_74 : decode m_P_procedure.2.1 74 = .ok (.astore_n 3, 1) := by decide +kernel
theorem d_P_procedure_75 : decode m_P_procedure.2.1 75 = .ok (.aload_n 0, 1) := by decide +kernel
theorem d_P_procedure_76 : decode m_P_procedure.2.1 76 = .ok (.invokevirtual 402, 3) := by decide +kernel
theorem d_P_procedure_79 : decode m_P_procedure.2.1 79 = .ok (.goto (-44), 3) := by decide +kernel
theorem d_P_procedure_82 : decode m_P_procedure.2.1 82 = .ok (.aload_n 0, 1) := by decide +kernel
theorem d_P_procedure_83 : decode m_P_procedure.2.1 83 = .ok (.dup, 1) := by decide +kernel
theorem d_P_procedure_84 : decode m_P_procedure.2.1 84 = .ok (.getfield 393, 3) := by decide +kernel
theorem d_P_procedure_87 : decode m_P_procedure.2.1 87 = .ok (.iconst 1, 1) := by decide +kernel
theorem d_P_procedure_88 : decode m_P_procedure.2.1 88 = .ok (.iadd, 1) := by decide +kernel
theorem d_P_procedure_89 : decode m_P_procedure.2.1 89 = .ok (.putfield 393, 3) := by decide +kernel
theorem d_P_procedure_92 : decode m_P_procedure.2.1 92 = .ok (.aload_n 0, 1) := by decide +kernel
theorem d_P_procedure_93 : decode m_P_procedure.2.1 93 = .ok (.getfield 405, 3) := by decide +kernel
theorem d_P_procedure_96 : decode m_P_procedure.2.1 96 = .ok (.iload_n 2, 1) := by decide +kernel
theorem d_P_procedure_97 : decode m_P_procedure.2.1 97 = .ok (.isub, 1) := by decide +kernel
theorem d_P_procedure_98 : decode m_P_procedure.2.1 98 = .ok (.istore_n 3, 1) := by decide +kernel
theorem d_P_procedure_99 : decode m_P_procedure.2.1 99 = .ok (.aload_n 0, 1) := by decide +kernel
theorem d_P_procedure_100 : decode m_P_procedure.2.1 100 = .ok (.iload_n 3, 1) := by decide +kernel
theorem d_P_procedure_101 : decode m_P_procedure.2.1 101 = .ok (.invokevirtual 447, 3) := by decide +kernel
theorem d_P_procedure_104 : decode m_P_procedure.2.1 104 = .ok (.istore 4, 2) := by decide +kernel
theorem d_P_procedure_106 : decode m_P_procedure.2.1 106 = .ok (.iconst 0, 1) := by decide +kernel
theorem d_P_procedure_107 : decode m_P_procedure.2.1 107 = .ok (.istore 5, 2) := by decide +kernel
theorem d_P_procedure_109 : decode m_P_procedure.2.1 109 = .ok (.iload 5, 2) := by decide +kernel
theorem d_P_procedure_111 : decode m_P_procedure.2.1 111 = .ok (.iload_n 3, 1) := by decide +kernel
theorem d_P_procedure_112 : decode m_P_procedure.2.1 112 = .ok (.if_icmp .ge 31, 3) := by decide +kernel
theorem d_P_procedure_115 : decode m_P_procedure.2.1 115 = .ok (.aload_n 0, 1) := by decide +kernel
theorem d_P_procedure_116 : decode m_P_procedure.2.1 116 = .ok (.getfield 57, 3) := by decide +kernel
theorem d_P_procedure_119 : decode m_P_procedure.2.1 119 = .ok (.iload 4, 2) := by decide +kernel
theorem d_P_procedure_121 : decode m_P_procedure.2.1 121 = .ok (.iload 5, 2) := by decide +kernel
theorem d_P_procedure_123 : decode m_P_procedure.2.1 123 = .ok (.iadd, 1) := by decide +kernel
theorem d_P_procedure_124 : decode m_P_procedure.2.1 124 = .ok (.aaload, 1) := by decide +kernel
theorem d_P_procedure_125 : decode m_P_procedure.2.1 125 = .ok (.aload_n 0, 1) := by decide +kernel
theorem d_P_procedure_126 : decode m_P_procedure.2.1 126 = .ok (.getfield 60, 3) := by decide +kernel
theorem d_P_procedure_129 : decode m_P_procedure.2.1 129 = .ok (.iload_n 2, 1) := by decide +kernel
theorem d_P_procedure_130 : decode m_P_procedure.2.1 130 = .ok (.iload 5, 2) := by decide +kernel
theorem d_P_procedure_132 : decode m_P_procedure.2.1 132 = .ok (.iadd, 1) := by decide +kernel
theorem d_P_procedure_133 : decode m_P_procedure.2.1 133 = .ok (.aaload, 1) := by decide +kernel
theorem d_P_procedure_134 : decode m_P_procedure.2.1 134 = .ok (.invokevirtual 182, 3) := by decide +kernel
theorem d_P_procedure_137 : decode m_P_procedure.2.1 137 = .ok (.iinc 5 1, 3) := by decide +kernel
theorem d_P_procedure_140 : decode m_P_procedure.2.1 140 = .ok (.goto (-31), 3) := by decide +kernel
theorem d_P_procedure_143 : decode m_P_procedure.2.1 143 = .ok (.aload_n 0, 1) := by decide +kernel
theorem d_P_procedure_144 : decode m_P_procedure.2.1 144 = .ok (.iload_n 2, 1) := by decide +kernel
theorem d_P_procedure_145 : decode m_P_procedure.2.1 145 = .ok (.putfield 405, 3) := by decide +kernel
theorem d_P_procedure_148 : decode m_P_procedure.2.1 148 = .ok (.aload_n 0, 1) := by decide +kernel
theorem d_P_procedure_149 : decode m_P_procedure.2.1 149 = .ok (.invokevirtual 415, 3) := by decide +kernel
theorem d_P_procedure_152 : decode m_P_procedure.2.1 152 = .ok (.astore 5, 2) := by decide +kernel
theorem d_P_procedure_154 : decode m_P_procedure.2.1 154 = .ok (.aload 5, 2) := by decide +kernel
theorem d_P_procedure_156 : decode m_P_procedure.2.1 156 = .ok (.getstatic 451, 3) := by decide +kernel
theorem d_P_procedure_159 : decode m_P_procedure.2.1 159 = .ok (.iload 4, 2) := by decide +kernel
theorem d_P_procedure_161 : decode m_P_procedure.2.1 161 = .ok (.iload_n 3, 1) := by decide +kernel
theorem d_P_procedure_162 : decode m_P_procedure.2.1 162 = .ok (.iconst 1, 1) := by decide +kernel
theorem d_P_procedure_163 : decode m_P_procedure.2.1 163 = .ok (.invokevirtual 186, 3) := by decide +kernel
theorem d_P_procedure_166 : decode m_P_procedure.2.1 166 = .ok (.aload 5, 2) := by decide +kernel
theorem d_P_procedure_168 : decode m_P_procedure.2.1 168 = .ok (.areturn, 1) := by decide +kernel
theorem d_StringBuilder_setLength_0 : decode m_StringBuilder_setLength.2.1 0 = .ok (.aload_n 0, 1) := by decide +kernel
theorem d_StringBuilder_setLength_1 : decode m_StringBuilder_setLength.2.1 1 = .ok (.iload_n 1, 1) := by decide +kernel
theorem d_StringBuilder_setLength_2 : decode m_StringBuilder_setLength.2.1 2 = .ok (.invokespecial 333, 3) := by decide +kernel
theorem d_StringBuilder_setLength_5 : decode m_StringBuilder_setLength.2.1 5 = .ok (.return_, 1) := by decide +kernel
theorem d_StringBuilder_append0_0 : decode m_StringBuilder_append0.2.1 0 = .ok (.aload_n 0, 1) := by decide +kernel
theorem d_StringBuilder_append0_1 : decode m_StringBuilder_append0.2.1 1 = .ok (.iload_n 1, 1) := by decide +kernel
theorem d_StringBuilder_append0_2 : decode m_StringBuilder_append0.2.1 2 = .ok (.invokespecial 50, 3) := by decide +kernel
theorem d_StringBuilder_append0_5 : decode m_StringBuilder_append0.2.1 5 = .ok (.pop, 1) := by decide +kernel
theorem d_StringBuilder_append0_6 : decode m_StringBuilder_append0.2.1 6 = .ok (.aload_n 0, 1) := by decide +kernel
theorem d_StringBuilder_append0_7 : decode m_StringBuilder_append0.2.1 7 = .ok (.areturn, 1) := by decide +kernel
theorem d_Slot_named_0 : decode m_Slot_named.2.1 0 = .ok (.aload_n 0, 1) := by decide +kernel
theorem d_Slot_named_1 : decode m_Slot_named.2.1 1 = .ok (.getstatic 40, 3) := by decide +kernel
theorem d_Slot_named_4 : decode m_Slot_named.2.1 4 = .ok (.iconst 0, 1) := by decide +kernel
theorem d_Slot_named_5 : decode m_Slot_named.2.1 5 = .ok (.iconst 0, 1) := by decide +kernel
theorem d_Slot_named_6 : decode m_Slot_named.2.1 6 = .ok (.iload_n 2, 1) := by decide +kernel
theorem d_Slot_named_7 : decode m_Slot_named.2.1 7 = .ok (.invokevirtual 32, 3) := by decide +kernel
theorem d_Slot_named_10 : decode m_Slot_named.2.1 10 = .ok (.aload_n 0, 1) := by decide +kernel
theorem d_Slot_named_11 : decode m_Slot_named.2.1 11 = .ok (.aload_n 1, 1) := by decide +kernel
theorem d_Slot_named_12 : decode m_Slot_named.2.1 12 = .ok (.putfield 43, 3) := by decide +kernel
theorem d_Slot_named_15 : decode m_Slot_named.2.1 15 = .ok (.return_, 1) := by decide +kernel
theorem d_P_token_0 : decode m_P_token.2.1 0 = .ok (.aload_n 0, 1) := by decide +kernel
theorem d_P_token_1 : decode m_P_token.2.1 1 = .ok (.invokevirtual 398, 3) := by decide +kernel
theorem d_P_token_4 : decode m_P_token.2.1 4 = .ok (.bipush 123, 2) := by decide +kernel
theorem d_P_token_6 : decode m_P_token.2.1 6 = .ok (.if_icmp .ne 11, 3) := by decide +kernel
theorem d_P_token_9 : decode m_P_token.2.1 9 = .ok (.aload_n 0, 1) := by decide +kernel
theorem d_P_token_10 : decode m_P_token.2.1 10 = .ok (.iload_n 1, 1) := by decide +kernel
theorem d_P_token_11 : decode m_P_token.2.1 11 = .ok (.iconst 1, 1) := by decide +kernel
theorem d_P_token_12 : decode m_P_token.2.1 12 = .ok (.iadd, 1) := by decide +kernel
theorem d_P_token_13 : decode m_P_token.2.1 13 = .ok (.invokestatic 411, 3) := by decide +kernel
theorem d_P_token_16 : decode m_P_token.2.1 16 = .ok (.areturn, 1) := by decide +kernel
theorem d_P_token_17 : decode m_P_token.2.1 17 = .ok (.aload_n 0, 1) := by decide +kernel
theorem d_P_token_18 : decode m_P_token.2.1 18 = .ok (.invokevirtual 415, 3) := by decide +kernel
theorem d_P_token_21 : decode m_P_token.2.1 21 = .ok (.astore_n 2, 1) := by decide +kernel
theorem d_P_token_22 : decode m_P_token.2.1 22 = .ok (.aload_n 0, 1) := by decide +kernel
theorem d_P_token_23 : decode m_P_token.2.1 23 = .ok (.invokevirtual 398, 3) := by decide +kernel
theorem d_P_token_26 : decode m_P_token.2.1 26 = .ok (.invokestatic 419, 3) := by decide +kernel
theorem d_P_token_29 : decode m_P_token.2.1 29 = .ok (.ifCond .ne 12, 3) := by decide +kernel
theorem d_P_token_32 : decode m_P_token.2.1 32 = .ok (.aload_n 0, 1) := by decide +kernel
theorem d_P_token_33 : decode m_P_token.2.1 33 = .ok (.invokevirtual 398, 3) := by decide +kernel
theorem d_P_token_36 : decode m_P_token.2.1 36 = .ok (.bipush 45, 2) := by decide +kernel
theorem d_P_token_38 : decode m_P_token.2.1 38 = .ok (.if_icmp .ne 10, 3) := by decide +kernel
theorem d_P_token_41 : decode m_P_token.2.1 41 = .ok (.aload_n 0, 1) := by decide +kernel
theorem d_P_token_42 : decode m_P_token.2.1 42 = .ok (.aload_n 2, 1) := by decide +kernel
theorem d_P_token_43 : decode m_P_token.2.1 43 = .ok (.invokevirtual 423, 3) := by decide +kernel
theorem d_P_token_46 : decode m_P_token.2.1 46 = .ok (.aload_n 2, 1) := by decide +kernel
theorem d_P_token_47 : decode m_P_token.2.1 47 = .ok (.areturn, 1) := by decide +kernel
theorem d_P_token_48 : decode m_P_token.2.1 48 = .ok (.aload_n 0, 1) := by decide +kernel
theorem d_P_token_49 : decode m_P_token.2.1 49 = .ok (.invokevirtual 398, 3) := by decide +kernel
theorem d_P_token_52 : decode m_P_token.2.1 52 = .ok (.bipush 47, 2) := by decide +kernel
theorem d_P_token_54 : decode m_P_token.2.1 54 = .ok (.if_icmp .ne 7, 3) := by decide +kernel
theorem d_P_token_57 : decode m_P_token.2.1 57 = .ok (.iconst 1, 1) := by decide +kernel
theorem d_P_token_58 : decode m_P_token.2.1 58 = .ok (.goto 4, 3) := by decide +kernel
theorem d_P_token_61 : decode m_P_token.2.1 61 = .ok (.iconst 0, 1) := by decide +kernel
theorem d_P_token_62 : decode m_P_token.2.1 62 = .ok (.istore_n 3, 1) := by decide +kernel
theorem d_P_token_63 : decode m_P_token.2.1 63 = .ok (.aload_n 0, 1) := by decide +kernel
theorem d_P_token_64 : decode m_P_token.2.1 64 = .ok (.dup, 1) := by decide +kernel
theorem d_P_token_65 : decode m_P_token.2.1 65 = .ok (.getfield 393, 3) := by decide +kernel
theorem d_P_token_68 : decode m_P_token.2.1 68 = .ok (.iload_n 3, 1) := by decide +kernel
theorem d_P_token_69 : decode m_P_token.2.1 69 = .ok (.ifCond .eq 7, 3) := by decide +kernel
theorem d_P_token_72 : decode m_P_token.2.1 72 = .ok (.iconst 1, 1) := by decide +kernel
theorem d_P_token_73 : decode m_P_token.2.1 73 = .ok (.goto 4, 3) := by decide +kernel
theorem d_P_token_76 : decode m_P_token.2.1 76 = .ok (.iconst 0, 1) := by decide +kernel
theorem d_P_token_77 : decode m_P_token.2.1 77 = .ok (.iadd, 1) := by decide +kernel
theorem d_P_token_78 : decode m_P_token.2.1 78 = .ok (.putfield 393, 3) := by decide +kernel
theorem d_P_token_81 : decode m_P_token.2.1 81 = .ok (.aload_n 0, 1) := by decide +kernel
theorem d_P_token_82 : decode m_P_token.2.1 82 = .ok (.getfield 48, 3) := by decide +kernel
theorem d_P_token_85 : decode m_P_token.2.1 85 = .ok (.iconst 0, 1) := by decide +kernel
theorem d_P_token_86 : decode m_P_token.2.1 86 = .ok (.invokevirtual 426, 3) := by decide +kernel
theorem d_P_token_89 : decode m_P_token.2.1 89 = .ok (.iload_n 3, 1) := by decide +kernel
theorem d_P_token_90 : decode m_P_token.2.1 90 = .ok (.ifCond .ne 36, 3) := by decide +kernel
theorem d_P_token_93 : decode m_P_token.2.1 93 = .ok (.aload_n 0, 1) := by decide +kernel
theorem d_P_token_94 : decode m_P_token.2.1 94 = .ok (.invokevirtual 398, 3) := by decide +kernel
theorem d_P_token_97 : decode m_P_token.2.1 97 = .ok (.bipush 91, 2) := by decide +kernel
theorem d_P_token_99 : decode m_P_token.2.1 99 = .ok (.if_icmp .eq 12, 3) := by decide +kernel
theorem d_P_token_102 : decode m_P_token.2.1 102 = .ok (.aload_n 0, 1) := by decide +kernel
theorem d_P_token_103 : decode m_P_token.2.1 103 = .ok (.invokevirtual 398, 3) := by decide +kernel
theorem d_P_token_106 : decode m_P_token.2.1 106 = .ok (.bipush 93, 2) := by decide +kernel
theorem d_P_token_108 : decode m_P_token.2.1 108 = .ok (.if_icmp .ne 18, 3) := by decide +kernel
theorem d_P_token_111 : decode m_P_token.2.1 111 = .ok (.aload_n 0, 1) := by decide +kernel
theorem d_P_token_112 : decode m_P_token.2.1 112 = .ok (.getfield 48, 3) := by decide +kernel
theorem d_P_token_115 : decode m_P_token.2.1 115 = .ok (.aload_n 0, 1) := by decide +kernel
theorem d_P_token_116 : decode m_P_token.2.1 116 = .ok (.invokevirtual 429, 3) := by decide +kernel
theorem d_P_token_119 : decode m_P_token.2.1 119 = .ok (.invokevirtual 432, 3) := by decide +kernel
theorem d_P_token_122 : decode m_P_token.2.1 122 = .ok (.pop, 1) := by decide +kernel
theorem d_P_token_123 : decode m_P_token.2.1 123 = .ok (.goto 25, 3) := by decide +kernel
theorem d_P_token_126 : decode m_P_token.2.1 126 = .ok (.aload_n 0, 1) := by decide +kernel
theorem d_P_token_127 : decode m_P_token.2.1 127 = .ok (.invokevirtual 436, 3) := by decide +kernel
theorem d_P_token_130 : decode m_P_token.2.1 130 = .ok (.ifCond .eq 18, 3) := by decide +kernel
theorem d_P_token_133 : decode m_P_token.2.1 133 = .ok (.aload_n 0, 1) := by decide +kernel
theorem d_P_token_134 : decode m_P_token.2.1 134 = .ok (.getfield 48, 3) := by decide +kernel
theorem d_P_token_137 : decode m_P_token.2.1 137 = .ok (.aload_n 0, 1) := by decide +kernel
theorem d_P_token_138 : decode m_P_token.2.1 138 = .ok (.invokevirtual 429, 3) := by decide +kernel
theorem d_P_token_141 : decode m_P_token.2.1 141 = .ok (.invokevirtual 432, 3) := by decide +kernel
theorem d_P_token_144 : decode m_P_token.2.1 144 = .ok (.pop, 1) := by decide +kernel
theorem d_P_token_145 : decode m_P_token.2.1 145 = .ok (.goto (-19), 3) := by decide +kernel
theorem d_P_token_148 : decode m_P_token.2.1 148 = .ok (.aload_n 0, 1) := by decide +kernel
theorem d_P_token_149 : decode m_P_token.2.1 149 = .ok (.aload_n 0, 1) := by decide +kernel
theorem d_P_token_150 : decode m_P_token.2.1 150 = .ok (.getfield 48, 3) := by decide +kernel
theorem d_P_token_153 : decode m_P_token.2.1 153 = .ok (.invokevirtual 396, 3) := by decide +kernel
theorem d_P_token_156 : decode m_P_token.2.1 156 = .ok (.ifCond .le 7, 3) := by decide +kernel
theorem d_P_token_159 : decode m_P_token.2.1 159 = .ok (.iconst 1, 1) := by decide +kernel
theorem d_P_token_160 : decode m_P_token.2.1 160 = .ok (.goto 4, 3) := by decide +kernel
theorem d_P_token_163 : decode m_P_token.2.1 163 = .ok (.iconst 0, 1) := by decide +kernel
theorem d_P_token_164 : decode m_P_token.2.1 164 = .ok (.bipush 15, 2) := by decide +kernel
theorem d_P_token_166 : decode m_P_token.2.1 166 = .ok (.invokevirtual 170, 3) := by decide +kernel
theorem d_P_token_169 : decode m_P_token.2.1 169 = .ok (.aload_n 2, 1) := by decide +kernel
theorem d_P_token_170 : decode m_P_token.2.1 170 = .ok (.aload_n 0, 1) := by decide +kernel
theorem d_P_token_171 : decode m_P_token.2.1 171 = .ok (.invokevirtual 439, 3) := by decide +kernel
theorem d_P_token_174 : decode m_P_token.2.1 174 = .ok (.iload_n 3, 1) := by decide +kernel
theorem d_P_token_175 : decode m_P_token.2.1 175 = .ok (.ifCond .ne 7, 3) := by decide +kernel
theorem d_P_token_178 : decode m_P_token.2.1 178 = .ok (.iconst 1, 1) := by decide +kernel
theorem d_P_token_179 : decode m_P_token.2.1 179 = .ok (.goto 4, 3) := by decide +kernel
theorem d_P_token_182 : decode m_P_token.2.1 182 = .ok (.iconst 0, 1) := by decide +kernel
theorem d_P_token_183 : decode m_P_token.2.1 183 = .ok (.invokevirtual 443, 3) := by decide +kernel
theorem d_P_token_186 : decode m_P_token.2.1 186 = .ok (.aload_n 2, 1) := by decide +kernel
theorem d_P_token_187 : decode m_P_token.2.1 187 = .ok (.areturn, 1) := by decide +kernel
theorem d_P_read_0 : decode m_P_read.2.1 0 = .ok (.aload_n 0, 1) := by decide +kernel
theorem d_P_read_1 : decode m_P_read.2.1 1 = .ok (.invokevirtual 402, 3) := by decide +kernel
theorem d_P_read_4 : decode m_P_read.2.1 4 = .ok (.aload_n 0, 1) := by decide +kernel
theorem d_P_read_5 : decode m_P_read.2.1 5 = .ok (.getfield 393, 3) := by decide +kernel
theorem d_P_read_8 : decode m_P_read.2.1 8 = .ok (.aload_n 0, 1) := by decide +kernel
theorem d_P_read_9 : decode m_P_read.2.1 9 = .ok (.getfield 44, 3) := by decide +kernel
theorem d_P_read_12 : decode m_P_read.2.1 12 = .ok (.invokevirtual 396, 3) := by decide +kernel
theorem d_P_read_15 : decode m_P_read.2.1 15 = .ok (.if_icmp .ge 25, 3) := by decide +kernel
theorem d_P_read_18 : decode m_P_read.2.1 18 = .ok (.aload_n 0, 1) := by decide +kernel
theorem d_P_read_19 : decode m_P_read.2.1 19 = .ok (.iconst 0, 1) := by decide +kernel
theorem d_P_read_20 : decode m_P_read.2.1 20 = .ok (.putfield 405, 3) := by decide +kernel
theorem d_P_read_23 : decode m_P_read.2.1 23 = .ok (.aload_n 0, 1) := by decide +kernel
theorem d_P_read_24 : decode m_P_read.2.1 24 = .ok (.aload_n 0, 1) := by decide +kernel
theorem d_P_read_25 : decode m_P_read.2.1 25 = .ok (.iconst 0, 1) := by decide +kernel
theorem d_P_read_26 : decode m_P_read.2.1 26 = .ok (.invokevirtual 408, 3) := by decide +kernel
theorem d_P_read_29 : decode m_P_read.2.1 29 = .ok (.iconst 0, 1) := by decide +kernel
theorem d_P_read_30 : decode m_P_read.2.1 30 = .ok (.invokevirtual 364, 3) := by decide +kernel
theorem d_P_read_33 : decode m_P_read.2.1 33 = .ok (.aload_n 0, 1) := by decide +kernel
theorem d_P_read_34 : decode m_P_read.2.1 34 = .ok (.invokevirtual 402, 3) := by decide +kernel
theorem d_P_read_37 : decode m_P_read.2.1 37 = .ok (.goto (-33), 3) := by decide +kernel
theorem d_P_read_40 : decode m_P_read.2.1 40 = .ok (.return_, 1) := by decide +kernel
theorem d_P_real_0 : decode m_P_real.2.1 0 = .ok (.aload_n 0, 1) := by decide +kernel
theorem d_P_real_1 : decode m_P_real.2.1 1 = .ok (.iload_n 1, 1) := by decide +kernel
theorem d_P_real_2 : decode m_P_real.2.1 2 = .ok (.invokevirtual 497, 3) := by decide +kernel
theorem d_P_real_5 : decode m_P_real.2.1 5 = .ok (.astore_n 2, 1) := by decide +kernel
theorem d_P_real_6 : decode m_P_real.2.1 6 = .ok (.aload_n 2, 1) := by decide +kernel
theorem d_P_real_7 : decode m_P_real.2.1 7 = .ok (.invokevirtual 514, 3) := by decide +kernel
theorem d_P_real_10 : decode m_P_real.2.1 10 = .ok (.ifCond .ne 11, 3) := by decide +kernel
theorem d_P_real_13 : decode m_P_real.2.1 13 = .ok (.new 509, 3) := by decide +kernel
theorem d_P_real_16 : decode m_P_real.2.1 16 = .ok (.dup, 1) := by decide +kernel
theorem d_P_real_17 : decode m_P_real.2.1 17 = .ok (.invokespecial 511, 3) := by decide +kernel
theorem d_P_real_20 : decode m_P_real.2.1 20 = .ok (.athrow, 1) := by decide +kernel
theorem d_P_real_21 : decode m_P_real.2.1 21 = .ok (.aload_n 2, 1) := by decide +kernel
theorem d_P_real_22 : decode m_P_real.2.1 22 = .ok (.invokevirtual 517, 3) := by decide +kernel
theorem d_P_real_25 : decode m_P_real.2.1 25 = .ok (.dreturn, 1) := by decide +kernel
theorem d_P_run_0 : decode m_P_run.2.1 0 = .ok (.iload_n 1, 1) := by decide +kernel
theorem d_P_run_1 : decode m_P_run.2.1 1 = .ok (.iconst 1, 1) := by decide +kernel
theorem d_P_run_2 : decode m_P_run.2.1 2 = .ok (.if_icmp .lt 10, 3) := by decide +kernel
theorem d_P_run_5 : decode m_P_run.2.1 5 = .ok (.iload_n 1, 1) := by decide +kernel
theorem d_P_run_6 : decode m_P_run.2.1 6 = .ok (.sipush 500, 3) := by decide +kernel
theorem d_P_run_9 : decode m_P_run.2.1 9 = .ok (.if_icmp .le 11, 3) := by decide +kernel
theorem d_P_run_12 : decode m_P_run.2.1 12 = .ok (.new 488, 3) := by decide +kernel
theorem d_P_run_15 : decode m_P_run.2.1 15 = .ok (.dup, 1) := by decide +kernel
theorem d_P_run_16 : decode m_P_run.2.1 16 = .ok (.invokespecial 490, 3) := by decide +kernel
theorem d_P_run_19 : decode m_P_run.2.1 19 = .ok (.athrow, 1) := by decide +kernel
theorem d_P_run_20 : decode m_P_run.2.1 20 = .ok (.aload_n 0, 1) := by decide +kernel
theorem d_P_run_21 : decode m_P_run.2.1 21 = .ok (.iload_n 1, 1) := by decide +kernel
theorem d_P_run_22 : decode m_P_run.2.1 22 = .ok (.putfield 314, 3) := by decide +kernel
theorem d_P_run_25 : decode m_P_run.2.1 25 = .ok (.aload_n 0, 1) := by decide +kernel
theorem d_P_run_26 : decode m_P_run.2.1 26 = .ok (.aload_n 0, 1) := by decide +kernel
theorem d_P_run_27 : decode m_P_run.2.1 27 = .ok (.aload_n 0, 1) := by decide +kernel
theorem d_P_run_28 : decode m_P_run.2.1 28 = .ok (.aload_n 0, 1) := by decide +kernel
theorem d_P_run_29 : decode m_P_run.2.1 29 = .ok (.aload_n 0, 1) := by decide +kernel
theorem d_P_run_30 : decode m_P_run.2.1 30 = .ok (.aload_n 0, 1) := by decide +kernel
theorem d_P_run_31 : decode m_P_run.2.1 31 = .ok (.iconst 0, 1) := by decide +kernel
theorem d_P_run_32 : decode m_P_run.2.1 32 = .ok (.dup_x1, 1) := by decide +kernel
theorem d_P_run_33 : decode m_P_run.2.1 33 = .ok (.putfield 387, 3) := by decide +kernel
theorem d_P_run_36 : decode m_P_run.2.1 36 = .ok (.dup_x1, 1) := by decide +kernel
theorem d_P_run_37 : decode m_P_run.2.1 37 = .ok (.putfield 384, 3) := by decide +kernel
theorem d_P_run_40 : decode m_P_run.2.1 40 = .ok (.dup_x1, 1) := by decide +kernel
theorem d_P_run_41 : decode m_P_run.2.1 41 = .ok (.putfield 291, 3) := by decide +kernel
theorem d_P_run_44 : decode m_P_run.2.1 44 = .ok (.dup_x1, 1) := by decide +kernel
theorem d_P_run_45 : decode m_P_run.2.1 45 = .ok (.putfield 393, 3) := by decide +kernel
theorem d_P_run_48 : decode m_P_run.2.1 48 = .ok (.dup_x1, 1) := by decide +kernel
theorem d_P_run_49 : decode m_P_run.2.1 49 = .ok (.putfield 161, 3) := by decide +kernel
theorem d_P_run_52 : decode m_P_run.2.1 52 = .ok (.putfield 311, 3) := by decide +kernel
theorem d_P_run_55 : decode m_P_run.2.1 55 = .ok (.aload_n 0, 1) := by decide +kernel
theorem d_P_run_56 : decode m_P_run.2.1 56 = .ok (.iconst 0, 1) := by decide +kernel
theorem d_P_run_57 : decode m_P_run.2.1 57 = .ok (.putfield 381, 3) := by decide +kernel
theorem d_P_run_60 : decode m_P_run.2.1 60 = .ok (.iconst 0, 1) := by decide +kernel
theorem d_P_run_61 : decode m_P_run.2.1 61 = .ok (.istore_n 2, 1) := by decide +kernel
theorem d_P_run_62 : decode m_P_run.2.1 62 = .ok (.aload_n 0, 1) := by decide +kernel
theorem d_P_run_63 : decode m_P_run.2.1 63 = .ok (.invokevirtual 491, 3) := by decide +kernel
theorem d_P_run_66 : decode m_P_run.2.1 66 = .ok (.goto 9, 3) := by decide +kernel
theorem d_P_run_69 : decode m_P_run.2.1 69 = .ok (.astore_n 3, 1) := by decide +kernel
theorem d_P_run_70 : decode m_P_run.2.1 70 = .ok (.aload_n 0, 1) := by decide +kernel
theorem d_P_run_71 : decode m_P_run.2.1 71 = .ok (.getfield 161, 3) := by decide +kernel
theorem d_P_run_74 : decode m_P_run.2.1 74 = .ok (.istore_n 2, 1) := by decide +kernel
theorem d_P_run_75 : decode m_P_run.2.1 75 = .ok (.aload_n 0, 1) := by decide +kernel
theorem d_P_run_76 : decode m_P_run.2.1 76 = .ok (.getfield 44, 3) := by decide +kernel
theorem d_P_run_79 : decode m_P_run.2.1 79 = .ok (.iconst 0, 1) := by decide +kernel
theorem d_P_run_80 : decode m_P_run.2.1 80 = .ok (.invokevirtual 426, 3) := by decide +kernel
theorem d_P_run_83 : decode m_P_run.2.1 83 = .ok (.iload_n 2, 1) := by decide +kernel
theorem d_P_run_84 : decode m_P_run.2.1 84 = .ok (.ireturn, 1) := by decide +kernel
theorem d_P_steps_0 : decode m_P_steps.2.1 0 = .ok (.aload_n 0, 1) := by decide +kernel
theorem d_P_steps_1 : decode m_P_steps.2.1 1 = .ok (.getfield 311, 3) := by decide +kernel
theorem d_P_steps_4 : decode m_P_steps.2.1 4 = .ok (.ireturn, 1) := by decide +kernel
theorem d_P_used_0 : decode m_P_used.2.1 0 = .ok (.iload_n 1, 1) := by decide +kernel
theorem d_P_used_1 : decode m_P_used.2.1 1 = .ok (.ifCond .ne 10, 3) := by decide +kernel
theorem d_P_used_4 : decode m_P_used.2.1 4 = .ok (.aload_n 0, 1) := by decide +kernel
theorem d_P_used_5 : decode m_P_used.2.1 5 = .ok (.getfield 231, 3) := by decide +kernel
theorem d_P_used_8 : decode m_P_used.2.1 8 = .ok (.goto 85, 3) := by decide +kernel
theorem d_P_used_11 : decode m_P_used.2.1 11 = .ok (.iload_n 1, 1) := by decide +kernel
theorem d_P_used_12 : decode m_P_used.2.1 12 = .ok (.iconst 1, 1) := by decide +kernel
theorem d_P_used_13 : decode m_P_used.2.1 13 = .ok (.if_icmp .ne 15, 3) := by decide +kernel
theorem d_P_used_16 : decode m_P_used.2.1 16 = .ok (.aload_n 0, 1) := by decide +kernel
theorem d_P_used_17 : decode m_P_used.2.1 17 = .ok (.getfield 66, 3) := by decide +kernel
theorem d_P_used_20 : decode m_P_used.2.1 20 = .ok (.invokevirtual 276, 3) := by decide +kernel
theorem d_P_used_23 : decode m_P_used.2.1 23 = .ok (.iconst 1, 1) := by decide +kernel
theorem d_P_used_24 : decode m_P_used.2.1 24 = .ok (.isub, 1) := by decide +kernel
theorem d_P_used_25 : decode m_P_used.2.1 25 = .ok (.goto 68, 3) := by decide +kernel
theorem d_P_used_28 : decode m_P_used.2.1 28 = .ok (.iload_n 1, 1) := by decide +kernel
theorem d_P_used_29 : decode m_P_used.2.1 29 = .ok (.iconst 2, 1) := by decide +kernel
theorem d_P_used_30 : decode m_P_used.2.1 30 = .ok (.if_icmp .ne 10, 3) := by decide +kernel
theorem d_P_used_33 : decode m_P_used.2.1 33 = .ok (.aload_n 0, 1) := by decide +kernel
theorem d_P_used_34 : decode m_P_used.2.1 34 = .ok (.getfield 76, 3) := by decide +kernel
theorem d_P_used_37 : decode m_P_used.2.1 37 = .ok (.goto 56, 3) := by decide +kernel
theorem d_P_used_40 : decode m_P_used.2.1 40 = .ok (.iload_n 1, 1) := by decide +kernel
theorem d_P_used_41 : decode m_P_used.2.1 41 = .ok (.iconst 3, 1) := by decide +kernel
theorem d_P_used_42 : decode m_P_used.2.1 42 = .ok (.if_icmp .ne 10, 3) := by decide +kernel
theorem d_P_used_45 : decode m_P_used.2.1 45 = .ok (.aload_n 0, 1) := by decide +kernel
theorem d_P_used_46 : decode m_P_used.2.1 46 = .ok (.getfield 234, 3) := by decide +kernel
theorem d_P_used_49 : decode m_P_used.2.1 49 = .ok (.goto 44, 3) := by decide +kernel
theorem d_P_used_52 : decode m_P_used.2.1 52 = .ok (.iload_n 1, 1) := by decide +kernel
theorem d_P_used_53 : decode m_P_used.2.1 53 = .ok (.iconst 4, 1) := by decide +kernel
theorem d_P_used_54 : decode m_P_used.2.1 54 = .ok (.if_icmp .ne 10, 3) := by decide +kernel
theorem d_P_used_57 : decode m_P_used.2.1 57 = .ok (.aload_n 0, 1) := by decide +kernel
theorem d_P_used_58 : decode m_P_used.2.1 58 = .ok (.getfield 471, 3) := by decide +kernel
theorem d_P_used_61 : decode m_P_used.2.1 61 = .ok (.goto 32, 3) := by decide +kernel
theorem d_P_used_64 : decode m_P_used.2.1 64 = .ok (.iload_n 1, 1) := by decide +kernel
theorem d_P_used_65 : decode m_P_used.2.1 65 = .ok (.iconst 5, 1) := by decide +kernel
theorem d_P_used_66 : decode m_P_used.2.1 66 = .ok (.if_icmp .ne 10, 3) := by decide +kernel
theorem d_P_used_69 : decode m_P_used.2.1 69 = .ok (.aload_n 0, 1) := by decide +kernel
theorem d_P_used_70 : decode m_P_used.2.1 70 = .ok (.getfield 464, 3) := by decide +kernel
theorem d_P_used_73 : decode m_P_used.2.1 73 = .ok (.goto 20, 3) := by decide +kernel
theorem d_P_used_76 : decode m_P_used.2.1 76 = .ok (.iload_n 1, 1) := by decide +kernel
theorem d_P_used_77 : decode m_P_used.2.1 77 = .ok (.bipush 6, 2) := by decide +kernel
theorem d_P_used_79 : decode m_P_used.2.1 79 = .ok (.if_icmp .ne 13, 3) := by decide +kernel
theorem d_P_used_82 : decode m_P_used.2.1 82 = .ok (.aload_n 0, 1) := by decide +kernel
theorem d_P_used_83 : decode m_P_used.2.1 83 = .ok (.getfield 44, 3) := by decide +kernel
theorem d_P_used_86 : decode m_P_used.2.1 86 = .ok (.invokevirtual 396, 3) := by decide +kernel
theorem d_P_used_89 : decode m_P_used.2.1 89 = .ok (.goto 4, 3) := by decide +kernel
theorem d_P_used_92 : decode m_P_used.2.1 92 = .ok (.iconst (-1), 1) := by decide +kernel
theorem d_P_used_93 : decode m_P_used.2.1 93 = .ok (.ireturn, 1) := by decide +kernel
theorem d_P_write_0 : decode m_P_write.2.1 0 = .ok (.aload_n 0, 1) := by decide +kernel
theorem d_P_write_1 : decode m_P_write.2.1 1 = .ok (.getfield 44, 3) := by decide +kernel
theorem d_P_write_4 : decode m_P_write.2.1 4 = .ok (.invokevirtual 396, 3) := by decide +kernel
theorem d_P_write_7 : decode m_P_write.2.1 7 = .ok (.istore_n 3, 1) := by decide +kernel
theorem d_P_write_8 : decode m_P_write.2.1 8 = .ok (.iconst 1, 1) := by decide +kernel
theorem d_P_write_9 : decode m_P_write.2.1 9 = .ok (.istore 4, 2) := by decide +kernel
theorem d_P_write_11 : decode m_P_write.2.1 11 = .ok (.bipush 56, 2) := by decide +kernel
theorem d_P_write_13 : decode m_P_write.2.1 13 = .ok (.istore 5, 2) := by decide +kernel
theorem d_P_write_15 : decode m_P_write.2.1 15 = .ok (.iload 5, 2) := by decide +kernel
theorem d_P_write_17 : decode m_P_write.2.1 17 = .ok (.ifCond .lt 67, 3) := by decide +kernel
theorem d_P_write_20 : decode m_P_write.2.1 20 = .ok (.lload_n 1, 1) := by decide +kernel
theorem d_P_write_21 : decode m_P_write.2.1 21 = .ok (.iload 5, 2) := by decide +kernel
theorem d_P_write_23 : decode m_P_write.2.1 23 = .ok (.lshr, 1) := by decide +kernel
theorem d_P_write_24 : decode m_P_write.2.1 24 = .ok (.l2i, 1) := by decide +kernel
theorem d_P_write_25 : decode m_P_write.2.1 25 = .ok (.sipush 255, 3) := by decide +kernel
theorem d_P_write_28 : decode m_P_write.2.1 28 = .ok (.iand, 1) := by decide +kernel
theorem d_P_write_29 : decode m_P_write.2.1 29 = .ok (.istore 6, 2) := by decide +kernel
theorem d_P_write_31 : decode m_P_write.2.1 31 = .ok (.iload 6, 2) := by decide +kernel
theorem d_P_write_33 : decode m_P_write.2.1 33 = .ok (.ifCond .eq 14, 3) := by decide +kernel
theorem d_P_write_36 : decode m_P_write.2.1 36 = .ok (.aload_n 0, 1) := by decide +kernel
theorem d_P_write_37 : decode m_P_write.2.1 37 = .ok (.getfield 44, 3) := by decide +kernel
theorem d_P_write_40 : decode m_P_write.2.1 40 = .ok (.iload 6, 2) := by decide +kernel
theorem d_P_write_42 : decode m_P_write.2.1 42 = .ok (.i2c, 1) := by decide +kernel
theorem d_P_write_43 : decode m_P_write.2.1 43 = .ok (.invokevirtual 432, 3) := by decide +kernel
theorem d_P_write_46 : decode m_P_write.2.1 46 = .ok (.pop, 1) := by decide +kernel
theorem d_P_write_47 : decode m_P_write.2.1 47 = .ok (.iload 4, 2) := by decide +kernel
theorem d_P_write_49 : decode m_P_write.2.1 49 = .ok (.ifCond .eq 26, 3) := by decide +kernel
theorem d_P_write_52 : decode m_P_write.2.1 52 = .ok (.iload 6, 2) := by decide +kernel
theorem d_P_write_54 : decode m_P_write.2.1 54 = .ok (.ifCond .eq 17, 3) := by decide +kernel
theorem d_P_write_57 : decode m_P_write.2.1 57 = .ok (.iload 6, 2) := by decide +kernel
theorem d_P_write_59 : decode m_P_write.2.1 59 = .ok (.bipush 32, 2) := by decide +kernel
theorem d_P_write_61 : decode m_P_write.2.1 61 = .ok (.if_icmp .lt 14, 3) := by decide +kernel
theorem d_P_write_64 : decode m_P_write.2.1 64 = .ok (.iload 6, 2) := by decide +kernel
theorem d_P_write_66 : decode m_P_write.2.1 66 = .ok (.bipush 126, 2) := by decide +kernel
theorem d_P_write_68 : decode m_P_write.2.1 68 = .ok (.if_icmp .gt 7, 3) := by decide +kernel
theorem d_P_write_71 : decode m_P_write.2.1 71 = .ok (.iconst 1, 1) := by decide +kernel
theorem d_P_write_72 : decode m_P_write.2.1 72 = .ok (.goto 4, 3) := by decide +kernel
theorem d_P_write_75 : decode m_P_write.2.1 75 = .ok (.iconst 0, 1) := by decide +kernel
theorem d_P_write_76 : decode m_P_write.2.1 76 = .ok (.istore 4, 2) := by decide +kernel
theorem d_P_write_78 : decode m_P_write.2.1 78 = .ok (.iinc 5 (-8), 3) := by decide +kernel
theorem d_P_write_81 : decode m_P_write.2.1 81 = .ok (.goto (-66), 3) := by decide +kernel
theorem d_P_write_84 : decode m_P_write.2.1 84 = .ok (.iload 4, 2) := by decide +kernel
theorem d_P_write_86 : decode m_P_write.2.1 86 = .ok (.ifCond .eq 19, 3) := by decide +kernel
theorem d_P_write_89 : decode m_P_write.2.1 89 = .ok (.aload_n 0, 1) := by decide +kernel
theorem d_P_write_90 : decode m_P_write.2.1 90 = .ok (.getfield 44, 3) := by decide +kernel
theorem d_P_write_93 : decode m_P_write.2.1 93 = .ok (.invokevirtual 396, 3) := by decide +kernel
theorem d_P_write_96 : decode m_P_write.2.1 96 = .ok (.bipush 120, 2) := by decide +kernel
theorem d_P_write_98 : decode m_P_write.2.1 98 = .ok (.if_icmp .gt 7, 3) := by decide +kernel
theorem d_P_write_101 : decode m_P_write.2.1 101 = .ok (.iconst 1, 1) := by decide +kernel
theorem d_P_write_102 : decode m_P_write.2.1 102 = .ok (.goto 4, 3) := by decide +kernel
theorem d_P_write_105 : decode m_P_write.2.1 105 = .ok (.iconst 0, 1) := by decide +kernel
theorem d_P_write_106 : decode m_P_write.2.1 106 = .ok (.istore 4, 2) := by decide +kernel
theorem d_P_write_108 : decode m_P_write.2.1 108 = .ok (.iload 4, 2) := by decide +kernel
theorem d_P_write_110 : decode m_P_write.2.1 110 = .ok (.ifCond .ne 11, 3) := by decide +kernel
theorem d_P_write_113 : decode m_P_write.2.1 113 = .ok (.aload_n 0, 1) := by decide +kernel
theorem d_P_write_114 : decode m_P_write.2.1 114 = .ok (.getfield 44, 3) := by decide +kernel
theorem d_P_write_117 : decode m_P_write.2.1 117 = .ok (.iload_n 3, 1) := by decide +kernel
theorem d_P_write_118 : decode m_P_write.2.1 118 = .ok (.invokevirtual 426, 3) := by decide +kernel
theorem d_P_write_121 : decode m_P_write.2.1 121 = .ok (.iload 4, 2) := by decide +kernel
theorem d_P_write_123 : decode m_P_write.2.1 123 = .ok (.ireturn, 1) := by decide +kernel
theorem d_W_cell_0 : decode m_W_cell.2.1 0 = .ok (.iload_n 1, 1) := by decide +kernel
theorem d_W_cell_1 : decode m_W_cell.2.1 1 = .ok (.aload_n 0, 1) := by decide +kernel
theorem d_W_cell_2 : decode m_W_cell.2.1 2 = .ok (.arraylength, 1) := by decide +kernel
theorem d_W_cell_3 : decode m_W_cell.2.1 3 = .ok (.if_icmp .ge 9, 3) := by decide +kernel
theorem d_W_cell_6 : decode m_W_cell.2.1 6 = .ok (.aload_n 0, 1) := by decide +kernel
theorem d_W_cell_7 : decode m_W_cell.2.1 7 = .ok (.iload_n 1, 1) := by decide +kernel
theorem d_W_cell_8 : decode m_W_cell.2.1 8 = .ok (.iaload, 1) := by decide +kernel
theorem d_W_cell_9 : decode m_W_cell.2.1 9 = .ok (.goto 4, 3) := by decide +kernel
theorem d_W_cell_12 : decode m_W_cell.2.1 12 = .ok (.iconst 0, 1) := by decide +kernel
theorem d_W_cell_13 : decode m_W_cell.2.1 13 = .ok (.ireturn, 1) := by decide +kernel
theorem d_W_kind_0 : decode m_W_kind.2.1 0 = .ok (.aload_n 2, 1) := by decide +kernel
theorem d_W_kind_1 : decode m_W_kind.2.1 1 = .ok (.iconst 0, 1) := by decide +kernel
theorem d_W_kind_2 : decode m_W_kind.2.1 2 = .ok (.aload_n 0, 1) := by decide +kernel
theorem d_W_kind_3 : decode m_W_kind.2.1 3 = .ok (.iload_n 1, 1) := by decide +kernel
theorem d_W_kind_4 : decode m_W_kind.2.1 4 = .ok (.invokevirtual 15, 3) := by decide +kernel
theorem d_W_kind_7 : decode m_W_kind.2.1 7 = .ok (.i2l, 1) := by decide +kernel
theorem d_W_kind_8 : decode m_W_kind.2.1 8 = .ok (.lastore, 1) := by decide +kernel
theorem d_W_kind_9 : decode m_W_kind.2.1 9 = .ok (.goto 6, 3) := by decide +kernel
theorem d_W_kind_12 : decode m_W_kind.2.1 12 = .ok (.astore_n 3, 1) := by decide +kernel
theorem d_W_kind_13 : decode m_W_kind.2.1 13 = .ok (.iconst 1, 1) := by decide +kernel
theorem d_W_kind_14 : decode m_W_kind.2.1 14 = .ok (.ireturn, 1) := by decide +kernel
theorem d_W_kind_15 : decode m_W_kind.2.1 15 = .ok (.iconst 0, 1) := by decide +kernel
theorem d_W_kind_16 : decode m_W_kind.2.1 16 = .ok (.ireturn, 1) := by decide +kernel
theorem d_W_number_0 : decode m_W_number.2.1 0 = .ok (.aload_n 2, 1) := by decide +kernel
theorem d_W_number_1 : decode m_W_number.2.1 1 = .ok (.iconst 0, 1) := by decide +kernel
theorem d_W_number_2 : decode m_W_number.2.1 2 = .ok (.aload_n 0, 1) := by decide +kernel
theorem d_W_number_3 : decode m_W_number.2.1 3 = .ok (.iload_n 1, 1) := by decide +kernel
theorem d_W_number_4 : decode m_W_number.2.1 4 = .ok (.invokevirtual 20, 3) := by decide +kernel
theorem d_W_number_7 : decode m_W_number.2.1 7 = .ok (.i2l, 1) := by decide +kernel
theorem d_W_number_8 : decode m_W_number.2.1 8 = .ok (.lastore, 1) := by decide +kernel
theorem d_W_number_9 : decode m_W_number.2.1 9 = .ok (.goto 9, 3) := by decide +kernel
theorem d_W_number_12 : decode m_W_number.2.1 12 = .ok (.astore_n 3, 1) := by decide +kernel
theorem d_W_number_13 : decode m_W_number.2.1 13 = .ok (.iconst 1, 1) := by decide +kernel
theorem d_W_number_14 : decode m_W_number.2.1 14 = .ok (.ireturn, 1) := by decide +kernel
theorem d_W_number_15 : decode m_W_number.2.1 15 = .ok (.astore_n 3, 1) := by decide +kernel
theorem d_W_number_16 : decode m_W_number.2.1 16 = .ok (.iconst 2, 1) := by decide +kernel
theorem d_W_number_17 : decode m_W_number.2.1 17 = .ok (.ireturn, 1) := by decide +kernel
theorem d_W_number_18 : decode m_W_number.2.1 18 = .ok (.iconst 0, 1) := by decide +kernel
theorem d_W_number_19 : decode m_W_number.2.1 19 = .ok (.ireturn, 1) := by decide +kernel
theorem d_W_real_0 : decode m_W_real.2.1 0 = .ok (.aload_n 2, 1) := by decide +kernel
theorem d_W_real_1 : decode m_W_real.2.1 1 = .ok (.iconst 0, 1) := by decide +kernel
theorem d_W_real_2 : decode m_W_real.2.1 2 = .ok (.aload_n 0, 1) := by decide +kernel
theorem d_W_real_3 : decode m_W_real.2.1 3 = .ok (.iload_n 1, 1) := by decide +kernel
theorem d_W_real_4 : decode m_W_real.2.1 4 = .ok (.invokevirtual 25, 3) := by decide +kernel
theorem d_W_real_7 : decode m_W_real.2.1 7 = .ok (.dastore, 1) := by decide +kernel
theorem d_W_real_8 : decode m_W_real.2.1 8 = .ok (.goto 9, 3) := by decide +kernel
theorem d_W_real_11 : decode m_W_real.2.1 11 = .ok (.astore_n 3, 1) := by decide +kernel
theorem d_W_real_12 : decode m_W_real.2.1 12 = .ok (.iconst 1, 1) := by decide +kernel
theorem d_W_real_13 : decode m_W_real.2.1 13 = .ok (.ireturn, 1) := by decide +kernel
theorem d_W_real_14 : decode m_W_real.2.1 14 = .ok (.astore_n 3, 1) := by decide +kernel
theorem d_W_real_15 : decode m_W_real.2.1 15 = .ok (.iconst 2, 1) := by decide +kernel
theorem d_W_real_16 : decode m_W_real.2.1 16 = .ok (.ireturn, 1) := by decide +kernel
theorem d_W_real_17 : decode m_W_real.2.1 17 = .ok (.iconst 0, 1) := by decide +kernel
theorem d_W_real_18 : decode m_W_real.2.1 18 = .ok (.ireturn, 1) := by decide +kernel
theorem d_W_run_0 : decode m_W_run.2.1 0 = .ok (.aload_n 2, 1) := by decide +kernel
theorem d_W_run_1 : decode m_W_run.2.1 1 = .ok (.iconst 0, 1) := by decide +kernel
theorem d_W_run_2 : decode m_W_run.2.1 2 = .ok (.aload_n 0, 1) := by decide +kernel
theorem d_W_run_3 : decode m_W_run.2.1 3 = .ok (.iload_n 1, 1) := by decide +kernel
theorem d_W_run_4 : decode m_W_run.2.1 4 = .ok (.invokevirtual 7, 3) := by decide +kernel
theorem d_W_run_7 : decode m_W_run.2.1 7 = .ok (.i2l, 1) := by decide +kernel
theorem d_W_run_8 : decode m_W_run.2.1 8 = .ok (.lastore, 1) := by decide +kernel
theorem d_W_run_9 : decode m_W_run.2.1 9 = .ok (.goto 6, 3) := by decide +kernel
theorem d_W_run_12 : decode m_W_run.2.1 12 = .ok (.astore_n 3, 1) := by decide +kernel
theorem d_W_run_13 : decode m_W_run.2.1 13 = .ok (.iconst 1, 1) := by decide +kernel
theorem d_W_run_14 : decode m_W_run.2.1 14 = .ok (.ireturn, 1) := by decide +kernel
theorem d_W_run_15 : decode m_W_run.2.1 15 = .ok (.iconst 0, 1) := by decide +kernel
theorem d_W_run_16 : decode m_W_run.2.1 16 = .ok (.ireturn, 1) := by decide +kernel
theorem d_Enum_ordinal_0 : decode m_Enum_ordinal.2.1 0 = .ok (.aload_n 0, 1) := by decide +kernel
theorem d_Enum_ordinal_1 : decode m_Enum_ordinal.2.1 1 = .ok (.getfield 7, 3) := by decide +kernel
theorem d_Enum_ordinal_4 : decode m_Enum_ordinal.2.1 4 = .ok (.ireturn, 1) := by decide +kernel
