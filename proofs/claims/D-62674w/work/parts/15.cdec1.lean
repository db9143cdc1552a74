theorem d_AbstractCollection_init_0 : decode m_AbstractCollection_init.2.1 0 = .ok (.aload_n 0, 1) := by decide +kernel
theorem d_AbstractCollection_init_1 : decode m_AbstractCollection_init.2.1 1 = .ok (.invokespecial 1, 3) := by decide +kernel
theorem d_AbstractCollection_init_4 : decode m_AbstractCollection_init.2.1 4 = .ok (.return_, 1) := by decide +kernel
theorem d_AbstractList_init_0 : decode m_AbstractList_init.2.1 0 = .ok (.aload_n 0, 1) := by decide +kernel
theorem d_AbstractList_init_1 : decode m_AbstractList_init.2.1 1 = .ok (.invokespecial 1, 3) := by decide +kernel
theorem d_AbstractList_init_4 : decode m_AbstractList_init.2.1 4 = .ok (.aload_n 0, 1) := by decide +kernel
theorem d_AbstractList_init_5 : decode m_AbstractList_init.2.1 5 = .ok (.iconst 0, 1) := by decide +kernel
theorem d_AbstractList_init_6 : decode m_AbstractList_init.2.1 6 = .ok (.putfield 7, 3) := by decide +kernel
theorem d_AbstractList_init_9 : decode m_AbstractList_init.2.1 9 = .ok (.return_, 1) := by decide +kernel
theorem d_Math_max_0 : decode m_Math_max.2.1 0 = .ok (.iload_n 0, 1) := by decide +kernel
theorem d_Math_max_1 : decode m_Math_max.2.1 1 = .ok (.iload_n 1, 1) := by decide +kernel
theorem d_Math_max_2 : decode m_Math_max.2.1 2 = .ok (.if_icmp .lt 7, 3) := by decide +kernel
theorem d_Math_max_5 : decode m_Math_max.2.1 5 = .ok (.iload_n 0, 1) := by decide +kernel
theorem d_Math_max_6 : decode m_Math_max.2.1 6 = .ok (.goto 4, 3) := by decide +kernel
theorem d_Math_max_9 : decode m_Math_max.2.1 9 = .ok (.iload_n 1, 1) := by decide +kernel
theorem d_Math_max_10 : decode m_Math_max.2.1 10 = .ok (.ireturn, 1) := by decide +kernel
theorem d_ArraysSupport_newLength_0 : decode m_ArraysSupport_newLength.2.1 0 = .ok (.iload_n 0, 1) := by decide +kernel
theorem d_ArraysSupport_newLength_1 : decode m_ArraysSupport_newLength.2.1 1 = .ok (.iload_n 1, 1) := by decide +kernel
theorem d_ArraysSupport_newLength_2 : decode m_ArraysSupport_newLength.2.1 2 = .ok (.iload_n 2, 1) := by decide +kernel
theorem d_ArraysSupport_newLength_3 : decode m_ArraysSupport_newLength.2.1 3 = .ok (.invokestatic 194, 3) := by decide +kernel
theorem d_ArraysSupport_newLength_6 : decode m_ArraysSupport_newLength.2.1 6 = .ok (.iadd, 1) := by decide +kernel
theorem d_ArraysSupport_newLength_7 : decode m_ArraysSupport_newLength.2.1 7 = .ok (.istore_n 3, 1) := by decide +kernel
theorem d_ArraysSupport_newLength_8 : decode m_ArraysSupport_newLength.2.1 8 = .ok (.iconst 0, 1) := by decide +kernel
theorem d_ArraysSupport_newLength_9 : decode m_ArraysSupport_newLength.2.1 9 = .ok (.iload_n 3, 1) := by decide +kernel
theorem d_ArraysSupport_newLength_10 : decode m_ArraysSupport_newLength.2.1 10 = .ok (.if_icmp .ge 11, 3) := by decide +kernel
theorem d_ArraysSupport_newLength_13 : decode m_ArraysSupport_newLength.2.1 13 = .ok (.iload_n 3, 1) := by decide +kernel
theorem d_ArraysSupport_newLength_14 : decode m_ArraysSupport_newLength.2.1 14 = .ok (.ldc 200, 2) := by decide +kernel
theorem d_ArraysSupport_newLength_16 : decode m_ArraysSupport_newLength.2.1 16 = .ok (.if_icmp .gt 5, 3) := by decide +kernel
theorem d_ArraysSupport_newLength_19 : decode m_ArraysSupport_newLength.2.1 19 = .ok (.iload_n 3, 1) := by decide +kernel
theorem d_ArraysSupport_newLength_20 : decode m_ArraysSupport_newLength.2.1 20 = .ok (.ireturn, 1) := by decide +kernel
theorem d_ArraysSupport_newLength_21 : decode m_ArraysSupport_newLength.2.1 21 = .ok (.iload_n 0, 1) := by decide +kernel
theorem d_ArraysSupport_newLength_22 : decode m_ArraysSupport_newLength.2.1 22 = .ok (.iload_n 1, 1) := by decide +kernel
theorem d_ArraysSupport_newLength_23 : decode m_ArraysSupport_newLength.2.1 23 = .ok (.invokestatic 201, 3) := by decide +kernel
theorem d_AbstractStringBuilder_newCapacity_0 : decode m_AbstractStringBuilder_newCapacity.2.1 0 = .ok (.aload_n 0, 1) := by decide +kernel
theorem d_AbstractStringBuilder_newCapacity_1 : decode m_AbstractStringBuilder_newCapacity.2.1 1 = .ok (.getfield 15, 3) := by decide +kernel
theorem d_AbstractStringBuilder_newCapacity_4 : decode m_AbstractStringBuilder_newCapacity.2.1 4 = .ok (.arraylength, 1) := by decide +kernel
theorem d_AbstractStringBuilder_newCapacity_5 : decode m_AbstractStringBuilder_newCapacity.2.1 5 = .ok (.istore_n 2, 1) := by decide +kernel
theorem d_AbstractStringBuilder_newCapacity_6 : decode m_AbstractStringBuilder_newCapacity.2.1 6 = .ok (.iload_n 1, 1) := by decide +kernel
theorem d_AbstractStringBuilder_newCapacity_7 : decode m_AbstractStringBuilder_newCapacity.2.1 7 = .ok (.aload_n 0, 1) := by decide +kernel
theorem d_AbstractStringBuilder_newCapacity_8 : decode m_AbstractStringBuilder_newCapacity.2.1 8 = .ok (.getfield 22, 3) := by decide +kernel
theorem d_AbstractStringBuilder_newCapacity_11 : decode m_AbstractStringBuilder_newCapacity.2.1 11 = .ok (.ishl, 1) := by decide +kernel
theorem d_AbstractStringBuilder_newCapacity_12 : decode m_AbstractStringBuilder_newCapacity.2.1 12 = .ok (.istore_n 3, 1) := by decide +kernel
theorem d_AbstractStringBuilder_newCapacity_13 : decode m_AbstractStringBuilder_newCapacity.2.1 13 = .ok (.iload_n 3, 1) := by decide +kernel
theorem d_AbstractStringBuilder_newCapacity_14 : decode m_AbstractStringBuilder_newCapacity.2.1 14 = .ok (.iload_n 2, 1) := by decide +kernel
theorem d_AbstractStringBuilder_newCapacity_15 : decode m_AbstractStringBuilder_newCapacity.2.1 15 = .ok (.isub, 1) := by decide +kernel
theorem d_AbstractStringBuilder_newCapacity_16 : decode m_AbstractStringBuilder_newCapacity.2.1 16 = .ok (.istore 4, 2) := by decide +kernel
theorem d_AbstractStringBuilder_newCapacity_18 : decode m_AbstractStringBuilder_newCapacity.2.1 18 = .ok (.iload_n 2, 1) := by decide +kernel
theorem d_AbstractStringBuilder_newCapacity_19 : decode m_AbstractStringBuilder_newCapacity.2.1 19 = .ok (.iload 4, 2) := by decide +kernel
theorem d_AbstractStringBuilder_newCapacity_21 : decode m_AbstractStringBuilder_newCapacity.2.1 21 = .ok (.iload_n 2, 1) := by decide +kernel
theorem d_AbstractStringBuilder_newCapacity_22 : decode m_AbstractStringBuilder_newCapacity.2.1 22 = .ok (.iconst 2, 1) := by decide +kernel
theorem d_AbstractStringBuilder_newCapacity_23 : decode m_AbstractStringBuilder_newCapacity.2.1 23 = .ok (.aload_n 0, 1) := by decide +kernel
theorem d_AbstractStringBuilder_newCapacity_24 : decode m_AbstractStringBuilder_newCapacity.2.1 24 = .ok (.getfield 22, 3) := by decide +kernel
theorem d_AbstractStringBuilder_newCapacity_27 : decode m_AbstractStringBuilder_newCapacity.2.1 27 = .ok (.ishl, 1) := by decide +kernel
theorem d_AbstractStringBuilder_newCapacity_28 : decode m_AbstractStringBuilder_newCapacity.2.1 28 = .ok (.iadd, 1) := by decide +kernel
theorem d_AbstractStringBuilder_newCapacity_29 : decode m_AbstractStringBuilder_newCapacity.2.1 29 = .ok (.invokestatic 114, 3) := by decide +kernel
theorem d_AbstractStringBuilder_newCapacity_32 : decode m_AbstractStringBuilder_newCapacity.2.1 32 = .ok (.istore 5, 2) := by decide +kernel
theorem d_AbstractStringBuilder_newCapacity_34 : decode m_AbstractStringBuilder_newCapacity.2.1 34 = .ok (.iload 5, 2) := by decide +kernel
theorem d_AbstractStringBuilder_newCapacity_36 : decode m_AbstractStringBuilder_newCapacity.2.1 36 = .ok (.ldc 39, 2) := by decide +kernel
theorem d_AbstractStringBuilder_newCapacity_38 : decode m_AbstractStringBuilder_newCapacity.2.1 38 = .ok (.if_icmp .ne 13, 3) := by decide +kernel
theorem d_AbstractStringBuilder_newCapacity_41 : decode m_AbstractStringBuilder_newCapacity.2.1 41 = .ok (.new 120, 3) := by decide +kernel
theorem d_AbstractStringBuilder_newCapacity_51 : decode m_AbstractStringBuilder_newCapacity.2.1 51 = .ok (.iload 5, 2) := by decide +kernel
theorem d_AbstractStringBuilder_newCapacity_53 : decode m_AbstractStringBuilder_newCapacity.2.1 53 = .ok (.aload_n 0, 1) := by decide +kernel
theorem d_AbstractStringBuilder_newCapacity_54 : decode m_AbstractStringBuilder_newCapacity.2.1 54 = .ok (.getfield 22, 3) := by decide +kernel
theorem d_AbstractStringBuilder_newCapacity_57 : decode m_AbstractStringBuilder_newCapacity.2.1 57 = .ok (.ishr, 1) := by decide +kernel
theorem d_AbstractStringBuilder_newCapacity_58 : decode m_AbstractStringBuilder_newCapacity.2.1 58 = .ok (.ireturn, 1) := by decide +kernel
theorem d_Math_min_0 : decode m_Math_min.2.1 0 = .ok (.iload_n 0, 1) := by decide +kernel
theorem d_Math_min_1 : decode m_Math_min.2.1 1 = .ok (.iload_n 1, 1) := by decide +kernel
theorem d_Math_min_2 : decode m_Math_min.2.1 2 = .ok (.if_icmp .gt 7, 3) := by decide +kernel
theorem d_Math_min_5 : decode m_Math_min.2.1 5 = .ok (.iload_n 0, 1) := by decide +kernel
theorem d_Math_min_6 : decode m_Math_min.2.1 6 = .ok (.goto 4, 3) := by decide +kernel
theorem d_Math_min_9 : decode m_Math_min.2.1 9 = .ok (.iload_n 1, 1) := by decide +kernel
theorem d_Math_min_10 : decode m_Math_min.2.1 10 = .ok (.ireturn, 1) := by decide +kernel
theorem d_Arrays_copyOf0_0 : decode m_Arrays_copyOf0.2.1 0 = .ok (.iload_n 1, 1) := by decide +kernel
theorem d_Arrays_copyOf0_1 : decode m_Arrays_copyOf0.2.1 1 = .ok (.aload_n 0, 1) := by decide +kernel
theorem d_Arrays_copyOf0_2 : decode m_Arrays_copyOf0.2.1 2 = .ok (.arraylength, 1) := by decide +kernel
theorem d_Arrays_copyOf0_3 : decode m_Arrays_copyOf0.2.1 3 = .ok (.if_icmp .ne 11, 3) := by decide +kernel
theorem d_Arrays_copyOf0_6 : decode m_Arrays_copyOf0.2.1 6 = .ok (.aload_n 0, 1) := by decide +kernel
theorem d_Arrays_copyOf0_7 : decode m_Arrays_copyOf0.2.1 7 = .ok (.invokevirtual 310, 3) := by decide +kernel
theorem d_Arrays_copyOf0_14 : decode m_Arrays_copyOf0.2.1 14 = .ok (.iload_n 1, 1) := by decide +kernel
theorem d_Arrays_copyOf0_15 : decode m_Arrays_copyOf0.2.1 15 = .ok (.newarray .byte, 2) := by decide +kernel
theorem d_Arrays_copyOf0_17 : decode m_Arrays_copyOf0.2.1 17 = .ok (.astore_n 2, 1) := by decide +kernel
theorem d_Arrays_copyOf0_18 : decode m_Arrays_copyOf0.2.1 18 = .ok (.aload_n 0, 1) := by decide +kernel
theorem d_Arrays_copyOf0_19 : decode m_Arrays_copyOf0.2.1 19 = .ok (.iconst 0, 1) := by decide +kernel
theorem d_Arrays_copyOf0_20 : decode m_Arrays_copyOf0.2.1 20 = .ok (.aload_n 2, 1) := by decide +kernel
theorem d_Arrays_copyOf0_21 : decode m_Arrays_copyOf0.2.1 21 = .ok (.iconst 0, 1) := by decide +kernel
theorem d_Arrays_copyOf0_22 : decode m_Arrays_copyOf0.2.1 22 = .ok (.aload_n 0, 1) := by decide +kernel
theorem d_Arrays_copyOf0_23 : decode m_Arrays_copyOf0.2.1 23 = .ok (.arraylength, 1) := by decide +kernel
theorem d_Arrays_copyOf0_24 : decode m_Arrays_copyOf0.2.1 24 = .ok (.iload_n 1, 1) := by decide +kernel
theorem d_Arrays_copyOf0_25 : decode m_Arrays_copyOf0.2.1 25 = .ok (.invokestatic 304, 3) := by decide +kernel
theorem d_Arrays_copyOf0_28 : decode m_Arrays_copyOf0.2.1 28 = .ok (.invokestatic 150, 3) := by decide +kernel
theorem d_Arrays_copyOf0_31 : decode m_Arrays_copyOf0.2.1 31 = .ok (.aload_n 2, 1) := by decide +kernel
theorem d_Arrays_copyOf0_32 : decode m_Arrays_copyOf0.2.1 32 = .ok (.areturn, 1) := by decide +kernel
theorem d_AbstractStringBuilder_ensureCapacityInternal_0 : decode m_AbstractStringBuilder_ensureCapacityInternal.2.1 0 = .ok (.aload_n 0, 1) := by decide +kernel
theorem d_AbstractStringBuilder_ensureCapacityInternal_1 : decode m_AbstractStringBuilder_ensureCapacityInternal.2.1 1 = .ok (.getfield 15, 3) := by decide +kernel
theorem d_AbstractStringBuilder_ensureCapacityInternal_4 : decode m_AbstractStringBuilder_ensureCapacityInternal.2.1 4 = .ok (.arraylength, 1) := by decide +kernel
theorem d_AbstractStringBuilder_ensureCapacityInternal_5 : decode m_AbstractStringBuilder_ensureCapacityInternal.2.1 5 = .ok (.aload_n 0, 1) := by decide +kernel
theorem d_AbstractStringBuilder_ensureCapacityInternal_6 : decode m_AbstractStringBuilder_ensureCapacityInternal.2.1 6 = .ok (.getfield 22, 3) := by decide +kernel
theorem d_AbstractStringBuilder_ensureCapacityInternal_9 : decode m_AbstractStringBuilder_ensureCapacityInternal.2.1 9 = .ok (.ishr, 1) := by decide +kernel
theorem d_AbstractStringBuilder_ensureCapacityInternal_10 : decode m_AbstractStringBuilder_ensureCapacityInternal.2.1 10 = .ok (.istore_n 2, 1) := by decide +kernel
theorem d_AbstractStringBuilder_ensureCapacityInternal_11 : decode m_AbstractStringBuilder_ensureCapacityInternal.2.1 11 = .ok (.iload_n 1, 1) := by decide +kernel
theorem d_AbstractStringBuilder_ensureCapacityInternal_12 : decode m_AbstractStringBuilder_ensureCapacityInternal.2.1 12 = .ok (.iload_n 2, 1) := by decide +kernel
theorem d_AbstractStringBuilder_ensureCapacityInternal_13 : decode m_AbstractStringBuilder_ensureCapacityInternal.2.1 13 = .ok (.isub, 1) := by decide +kernel
theorem d_AbstractStringBuilder_ensureCapacityInternal_14 : decode m_AbstractStringBuilder_ensureCapacityInternal.2.1 14 = .ok (.ifCond .le 24, 3) := by decide +kernel
theorem d_AbstractStringBuilder_ensureCapacityInternal_17 : decode m_AbstractStringBuilder_ensureCapacityInternal.2.1 17 = .ok (.aload_n 0, 1) := by decide +kernel
theorem d_AbstractStringBuilder_ensureCapacityInternal_18 : decode m_AbstractStringBuilder_ensureCapacityInternal.2.1 18 = .ok (.aload_n 0, 1) := by decide +kernel
theorem d_AbstractStringBuilder_ensureCapacityInternal_19 : decode m_AbstractStringBuilder_ensureCapacityInternal.2.1 19 = .ok (.getfield 15, 3) := by decide +kernel
theorem d_AbstractStringBuilder_ensureCapacityInternal_22 : decode m_AbstractStringBuilder_ensureCapacityInternal.2.1 22 = .ok (.aload_n 0, 1) := by decide +kernel
theorem d_AbstractStringBuilder_ensureCapacityInternal_23 : decode m_AbstractStringBuilder_ensureCapacityInternal.2.1 23 = .ok (.iload_n 1, 1) := by decide +kernel
theorem d_AbstractStringBuilder_ensureCapacityInternal_24 : decode m_AbstractStringBuilder_ensureCapacityInternal.2.1 24 = .ok (.invokevirtual 104, 3) := by decide +kernel
theorem d_AbstractStringBuilder_ensureCapacityInternal_27 : decode m_AbstractStringBuilder_ensureCapacityInternal.2.1 27 = .ok (.aload_n 0, 1) := by decide +kernel
theorem d_AbstractStringBuilder_ensureCapacityInternal_28 : decode m_AbstractStringBuilder_ensureCapacityInternal.2.1 28 = .ok (.getfield 22, 3) := by decide +kernel
theorem d_AbstractStringBuilder_ensureCapacityInternal_31 : decode m_AbstractStringBuilder_ensureCapacityInternal.2.1 31 = .ok (.ishl, 1) := by decide +kernel
theorem d_AbstractStringBuilder_ensureCapacityInternal_32 : decode m_AbstractStringBuilder_ensureCapacityInternal.2.1 32 = .ok (.invokestatic 108, 3) := by decide +kernel
theorem d_AbstractStringBuilder_ensureCapacityInternal_35 : decode m_AbstractStringBuilder_ensureCapacityInternal.2.1 35 = .ok (.putfield 15, 3) := by decide +kernel
theorem d_AbstractStringBuilder_ensureCapacityInternal_38 : decode m_AbstractStringBuilder_ensureCapacityInternal.2.1 38 = .ok (.return_, 1) := by decide +kernel
theorem d_AbstractStringBuilder_isLatin1_0 : decode m_AbstractStringBuilder_isLatin1.2.1 0 = .ok (.getstatic 18, 3) := by decide +kernel
theorem d_AbstractStringBuilder_isLatin1_3 : decode m_AbstractStringBuilder_isLatin1.2.1 3 = .ok (.ifCond .eq 14, 3) := by decide +kernel
theorem d_AbstractStringBuilder_isLatin1_6 : decode m_AbstractStringBuilder_isLatin1.2.1 6 = .ok (.aload_n 0, 1) := by decide +kernel
theorem d_AbstractStringBuilder_isLatin1_7 : decode m_AbstractStringBuilder_isLatin1.2.1 7 = .ok (.getfield 22, 3) := by decide +kernel
theorem d_AbstractStringBuilder_isLatin1_10 : decode m_AbstractStringBuilder_isLatin1.2.1 10 = .ok (.ifCond .ne 7, 3) := by decide +kernel
theorem d_AbstractStringBuilder_isLatin1_13 : decode m_AbstractStringBuilder_isLatin1.2.1 13 = .ok (.iconst 1, 1) := by decide +kernel
theorem d_AbstractStringBuilder_isLatin1_14 : decode m_AbstractStringBuilder_isLatin1.2.1 14 = .ok (.goto 4, 3) := by decide +kernel
theorem d_AbstractStringBuilder_isLatin1_17 : decode m_AbstractStringBuilder_isLatin1.2.1 17 = .ok (.iconst 0, 1) := by decide +kernel
theorem d_AbstractStringBuilder_isLatin1_18 : decode m_AbstractStringBuilder_isLatin1.2.1 18 = .ok (.ireturn, 1) := by decide +kernel
theorem d_StringLatin1_canEncode_0 : decode m_StringLatin1_canEncode.2.1 0 = .ok (.iload_n 0, 1) := by decide +kernel
theorem d_StringLatin1_canEncode_1 : decode m_StringLatin1_canEncode.2.1 1 = .ok (.sipush 255, 3) := by decide +kernel
theorem d_StringLatin1_canEncode_4 : decode m_StringLatin1_canEncode.2.1 4 = .ok (.if_icmp .gt 7, 3) := by decide +kernel
theorem d_StringLatin1_canEncode_7 : decode m_StringLatin1_canEncode.2.1 7 = .ok (.iconst 1, 1) := by decide +kernel
theorem d_StringLatin1_canEncode_8 : decode m_StringLatin1_canEncode.2.1 8 = .ok (.goto 4, 3) := by decide +kernel
theorem d_StringLatin1_canEncode_11 : decode m_StringLatin1_canEncode.2.1 11 = .ok (.iconst 0, 1) := by decide +kernel
theorem d_StringLatin1_canEncode_12 : decode m_StringLatin1_canEncode.2.1 12 = .ok (.ireturn, 1) := by decide +kernel
theorem d_AbstractStringBuilder_append0_0 : decode m_AbstractStringBuilder_append0.2.1 0 = .ok (.aload_n 0, 1) := by decide +kernel
theorem d_AbstractStringBuilder_append0_1 : decode m_AbstractStringBuilder_append0.2.1 1 = .ok (.aload_n 0, 1) := by decide +kernel
theorem d_AbstractStringBuilder_append0_2 : decode m_AbstractStringBuilder_append0.2.1 2 = .ok (.getfield 79, 3) := by decide +kernel
theorem d_AbstractStringBuilder_append0_5 : decode m_AbstractStringBuilder_append0.2.1 5 = .ok (.iconst 1, 1) := by decide +kernel
theorem d_AbstractStringBuilder_append0_6 : decode m_AbstractStringBuilder_append0.2.1 6 = .ok (.iadd, 1) := by decide +kernel
theorem d_AbstractStringBuilder_append0_7 : decode m_AbstractStringBuilder_append0.2.1 7 = .ok (.invokevirtual 100, 3) := by decide +kernel
theorem d_AbstractStringBuilder_append0_10 : decode m_AbstractStringBuilder_append0.2.1 10 = .ok (.aload_n 0, 1) := by decide +kernel
theorem d_AbstractStringBuilder_append0_11 : decode m_AbstractStringBuilder_append0.2.1 11 = .ok (.invokevirtual 83, 3) := by decide +kernel
theorem d_AbstractStringBuilder_append0_14 : decode m_AbstractStringBuilder_append0.2.1 14 = .ok (.ifCond .eq 31, 3) := by decide +kernel
theorem d_AbstractStringBuilder_append0_17 : decode m_AbstractStringBuilder_append0.2.1 17 = .ok (.iload_n 1, 1) := by decide +kernel
theorem d_AbstractStringBuilder_append0_18 : decode m_AbstractStringBuilder_append0.2.1 18 = .ok (.invokestatic 191, 3) := by decide +kernel
theorem d_AbstractStringBuilder_append0_21 : decode m_AbstractStringBuilder_append0.2.1 21 = .ok (.ifCond .eq 24, 3) := by decide +kernel
theorem d_AbstractStringBuilder_append0_24 : decode m_AbstractStringBuilder_append0.2.1 24 = .ok (.aload_n 0, 1) := by decide +kernel
theorem d_AbstractStringBuilder_append0_25 : decode m_AbstractStringBuilder_append0.2.1 25 = .ok (.getfield 15, 3) := by decide +kernel
theorem d_AbstractStringBuilder_append0_28 : decode m_AbstractStringBuilder_append0.2.1 28 = .ok (.aload_n 0, 1) := by decide +kernel
theorem d_AbstractStringBuilder_append0_29 : decode m_AbstractStringBuilder_append0.2.1 29 = .ok (.dup, 1) := by decide +kernel
theorem d_AbstractStringBuilder_append0_30 : decode m_AbstractStringBuilder_append0.2.1 30 = .ok (.getfield 79, 3) := by decide +kernel
theorem d_AbstractStringBuilder_append0_33 : decode m_AbstractStringBuilder_append0.2.1 33 = .ok (.dup_x1, 1) := by decide +kernel
theorem d_AbstractStringBuilder_append0_34 : decode m_AbstractStringBuilder_append0.2.1 34 = .ok (.iconst 1, 1) := by decide +kernel
theorem d_AbstractStringBuilder_append0_35 : decode m_AbstractStringBuilder_append0.2.1 35 = .ok (.iadd, 1) := by decide +kernel
theorem d_AbstractStringBuilder_append0_36 : decode m_AbstractStringBuilder_append0.2.1 36 = .ok (.putfield 79, 3) := by decide +kernel
theorem d_AbstractStringBuilder_append0_39 : decode m_AbstractStringBuilder_append0.2.1 39 = .ok (.iload_n 1, 1) := by decide +kernel
theorem d_AbstractStringBuilder_append0_40 : decode m_AbstractStringBuilder_append0.2.1 40 = .ok (.i2b, 1) := by decide +kernel
theorem d_AbstractStringBuilder_append0_41 : decode m_AbstractStringBuilder_append0.2.1 41 = .ok (.bastore, 1) := by decide +kernel
theorem d_AbstractStringBuilder_append0_42 : decode m_AbstractStringBuilder_append0.2.1 42 = .ok (.goto 33, 3) := by decide +kernel
theorem d_AbstractStringBuilder_append0_45 : decode m_AbstractStringBuilder_append0.2.1 45 = .ok (.aload_n 0, 1) := by decide +kernel
theorem d_AbstractStringBuilder_append0_46 : decode m_AbstractStringBuilder_append0.2.1 46 = .ok (.invokevirtual 83, 3) := by decide +kernel
theorem d_AbstractStringBuilder_append0_49 : decode m_AbstractStringBuilder_append0.2.1 49 = .ok (.ifCond .eq 7, 3) := by decide +kernel
theorem d_AbstractStringBuilder_append0_52 : decode m_AbstractStringBuilder_append0.2.1 52 = .ok (.aload_n 0, 1) := by decide +kernel
theorem d_AbstractStringBuilder_append0_53 : decode m_AbstractStringBuilder_append0.2.1 53 = .ok (.invokevirtual 195, 3) := by decide +kernel
theorem d_AbstractStringBuilder_append0_56 : decode m_AbstractStringBuilder_append0.2.1 56 = .ok (.aload_n 0, 1) := by decide +kernel
theorem d_AbstractStringBuilder_append0_57 : decode m_AbstractStringBuilder_append0.2.1 57 = .ok (.getfield 15, 3) := by decide +kernel
theorem d_AbstractStringBuilder_append0_60 : decode m_AbstractStringBuilder_append0.2.1 60 = .ok (.aload_n 0, 1) := by decide +kernel
theorem d_AbstractStringBuilder_append0_61 : decode m_AbstractStringBuilder_append0.2.1 61 = .ok (.dup, 1) := by decide +kernel
theorem d_AbstractStringBuilder_append0_62 : decode m_AbstractStringBuilder_append0.2.1 62 = .ok (.getfield 79, 3) := by decide +kernel
theorem d_AbstractStringBuilder_append0_65 : decode m_AbstractStringBuilder_append0.2.1 65 = .ok (.dup_x1, 1) := by decide +kernel
theorem d_AbstractStringBuilder_append0_66 : decode m_AbstractStringBuilder_append0.2.1 66 = .ok (.iconst 1, 1) := by decide +kernel
theorem d_AbstractStringBuilder_append0_67 : decode m_AbstractStringBuilder_append0.2.1 67 = .ok (.iadd, 1) := by decide +kernel
theorem d_AbstractStringBuilder_append0_68 : decode m_AbstractStringBuilder_append0.2.1 68 = .ok (.putfield 79, 3) := by decide +kernel
theorem d_AbstractStringBuilder_append0_71 : decode m_AbstractStringBuilder_append0.2.1 71 = .ok (.iload_n 1, 1) := by decide +kernel
theorem d_AbstractStringBuilder_append0_72 : decode m_AbstractStringBuilder_append0.2.1 72 = .ok (.invokestatic 197, 3) := by decide +kernel
theorem d_AbstractStringBuilder_append0_75 : decode m_AbstractStringBuilder_append0.2.1 75 = .ok (.aload_n 0, 1) := by decide +kernel
theorem d_AbstractStringBuilder_append0_76 : decode m_AbstractStringBuilder_append0.2.1 76 = .ok (.areturn, 1) := by decide +kernel
theorem d_Preconditions_checkIndex_0 : decode m_Preconditions_checkIndex.2.1 0 = .ok (.iload_n 0, 1) := by decide +kernel
theorem d_Preconditions_checkIndex_1 : decode m_Preconditions_checkIndex.2.1 1 = .ok (.ifCond .lt 8, 3) := by decide +kernel
theorem d_Preconditions_checkIndex_4 : decode m_Preconditions_checkIndex.2.1 4 = .ok (.iload_n 0, 1) := by decide +kernel
theorem d_Preconditions_checkIndex_5 : decode m_Preconditions_checkIndex.2.1 5 = .ok (.iload_n 1, 1) := by decide +kernel
theorem d_Preconditions_checkIndex_6 : decode m_Preconditions_checkIndex.2.1 6 = .ok (.if_icmp .lt 10, 3) := by decide +kernel
theorem d_Preconditions_checkIndex_9 : decode m_Preconditions_checkIndex.2.1 9 = .ok (.aload_n 2, 1) := by decide +kernel
theorem d_Preconditions_checkIndex_10 : decode m_Preconditions_checkIndex.2.1 10 = .ok (.iload_n 0, 1) := by decide +kernel
theorem d_Preconditions_checkIndex_11 : decode m_Preconditions_checkIndex.2.1 11 = .ok (.iload_n 1, 1) := by decide +kernel
theorem d_Preconditions_checkIndex_12 : decode m_Preconditions_checkIndex.2.1 12 = .ok (.invokestatic 95, 3) := by decide +kernel
theorem d_Preconditions_checkIndex_16 : decode m_Preconditions_checkIndex.2.1 16 = .ok (.iload_n 0, 1) := by decide +kernel
theorem d_Preconditions_checkIndex_17 : decode m_Preconditions_checkIndex.2.1 17 = .ok (.ireturn, 1) := by decide +kernel
theorem d_String_checkIndex_0 : decode m_String_checkIndex.2.1 0 = .ok (.iload_n 0, 1) := by decide +kernel
theorem d_String_checkIndex_1 : decode m_String_checkIndex.2.1 1 = .ok (.iload_n 1, 1) := by decide +kernel
theorem d_String_checkIndex_2 : decode m_String_checkIndex.2.1 2 = .ok (.getstatic 1053, 3) := by decide +kernel
theorem d_String_checkIndex_5 : decode m_String_checkIndex.2.1 5 = .ok (.invokestatic 1059, 3) := by decide +kernel
theorem d_String_checkIndex_8 : decode m_String_checkIndex.2.1 8 = .ok (.pop, 1) := by decide +kernel
theorem d_String_checkIndex_9 : decode m_String_checkIndex.2.1 9 = .ok (.return_, 1) := by decide +kernel
theorem d_AbstractStringBuilder_charAt_0 : decode m_AbstractStringBuilder_charAt.2.1 0 = .ok (.aload_n 0, 1) := by decide +kernel
theorem d_AbstractStringBuilder_charAt_1 : decode m_AbstractStringBuilder_charAt.2.1 1 = .ok (.getfield 22, 3) := by decide +kernel
theorem d_AbstractStringBuilder_charAt_4 : decode m_AbstractStringBuilder_charAt.2.1 4 = .ok (.istore_n 2, 1) := by decide +kernel
theorem d_AbstractStringBuilder_charAt_5 : decode m_AbstractStringBuilder_charAt.2.1 5 = .ok (.aload_n 0, 1) := by decide +kernel
theorem d_AbstractStringBuilder_charAt_6 : decode m_AbstractStringBuilder_charAt.2.1 6 = .ok (.getfield 15, 3) := by decide +kernel
theorem d_AbstractStringBuilder_charAt_9 : decode m_AbstractStringBuilder_charAt.2.1 9 = .ok (.astore_n 3, 1) := by decide +kernel
theorem d_AbstractStringBuilder_charAt_10 : decode m_AbstractStringBuilder_charAt.2.1 10 = .ok (.aload_n 0, 1) := by decide +kernel
theorem d_AbstractStringBuilder_charAt_11 : decode m_AbstractStringBuilder_charAt.2.1 11 = .ok (.getfield 79, 3) := by decide +kernel
theorem d_AbstractStringBuilder_charAt_14 : decode m_AbstractStringBuilder_charAt.2.1 14 = .ok (.aload_n 3, 1) := by decide +kernel
theorem d_AbstractStringBuilder_charAt_15 : decode m_AbstractStringBuilder_charAt.2.1 15 = .ok (.arraylength, 1) := by decide +kernel
theorem d_AbstractStringBuilder_charAt_16 : decode m_AbstractStringBuilder_charAt.2.1 16 = .ok (.iload_n 2, 1) := by decide +kernel
theorem d_AbstractStringBuilder_charAt_17 : decode m_AbstractStringBuilder_charAt.2.1 17 = .ok (.ishr, 1) := by decide +kernel
theorem d_AbstractStringBuilder_charAt_18 : decode m_AbstractStringBuilder_charAt.2.1 18 = .ok (.invokestatic 138, 3) := by decide +kernel
theorem d_AbstractStringBuilder_charAt_21 : decode m_AbstractStringBuilder_charAt.2.1 21 = .ok (.istore 4, 2) := by decide +kernel
theorem d_AbstractStringBuilder_charAt_23 : decode m_AbstractStringBuilder_charAt.2.1 23 = .ok (.iload_n 1, 1) := by decide +kernel
theorem d_AbstractStringBuilder_charAt_24 : decode m_AbstractStringBuilder_charAt.2.1 24 = .ok (.iload 4, 2) := by decide +kernel
theorem d_AbstractStringBuilder_charAt_26 : decode m_AbstractStringBuilder_charAt.2.1 26 = .ok (.invokestatic 144, 3) := by decide +kernel
theorem d_AbstractStringBuilder_charAt_29 : decode m_AbstractStringBuilder_charAt.2.1 29 = .ok (.iload_n 2, 1) := by decide +kernel
theorem d_AbstractStringBuilder_charAt_30 : decode m_AbstractStringBuilder_charAt.2.1 30 = .ok (.ifCond .ne 12, 3) := by decide +kernel
theorem d_AbstractStringBuilder_charAt_33 : decode m_AbstractStringBuilder_charAt.2.1 33 = .ok (.aload_n 3, 1) := by decide +kernel
theorem d_AbstractStringBuilder_charAt_34 : decode m_AbstractStringBuilder_charAt.2.1 34 = .ok (.iload_n 1, 1) := by decide +kernel
theorem d_AbstractStringBuilder_charAt_35 : decode m_AbstractStringBuilder_charAt.2.1 35 = .ok (.baload, 1) := by decide +kernel
theorem d_AbstractStringBuilder_charAt_36 : decode m_AbstractStringBuilder_charAt.2.1 36 = .ok (.sipush 255, 3) := by decide +kernel
theorem d_AbstractStringBuilder_charAt_39 : decode m_AbstractStringBuilder_charAt.2.1 39 = .ok (.iand, 1) := by decide +kernel
theorem d_AbstractStringBuilder_charAt_40 : decode m_AbstractStringBuilder_charAt.2.1 40 = .ok (.i2c, 1) := by decide +kernel
theorem d_AbstractStringBuilder_charAt_41 : decode m_AbstractStringBuilder_charAt.2.1 41 = .ok (.ireturn, 1) := by decide +kernel
theorem d_AbstractStringBuilder_charAt_42 : decode m_AbstractStringBuilder_charAt.2.1 42 = .ok (.aload_n 3, 1) := by decide +kernel
theorem d_AbstractStringBuilder_charAt_43 : decode m_AbstractStringBuilder_charAt.2.1 43 = .ok (.iload_n 1, 1) := by decide +kernel
theorem d_AbstractStringBuilder_charAt_44 : decode m_AbstractStringBuilder_charAt.2.1 44 = .ok (.invokestatic 148, 3) := by decide +kernel
theorem d_AbstractStringBuilder_getValue_0 : decode m_AbstractStringBuilder_getValue.2.1 0 = .ok (.aload_n 0, 1) := by decide +kernel
theorem d_AbstractStringBuilder_getValue_1 : decode m_AbstractStringBuilder_getValue.2.1 1 = .ok (.getfield 15, 3) := by decide +kernel
theorem d_AbstractStringBuilder_getValue_4 : decode m_AbstractStringBuilder_getValue.2.1 4 = .ok (.areturn, 1) := by decide +kernel
theorem d_AbstractStringBuilder_init_0 : decode m_AbstractStringBuilder_init.2.1 0 = .ok (.aload_n 0, 1) := by decide +kernel
theorem d_AbstractStringBuilder_init_1 : decode m_AbstractStringBuilder_init.2.1 1 = .ok (.invokespecial 3, 3) := by decide +kernel
theorem d_AbstractStringBuilder_init_4 : decode m_AbstractStringBuilder_init.2.1 4 = .ok (.getstatic 18, 3) := by decide +kernel
theorem d_AbstractStringBuilder_init_7 : decode m_AbstractStringBuilder_init.2.1 7 = .ok (.ifCond .eq 18, 3) := by decide +kernel
theorem d_AbstractStringBuilder_init_10 : decode m_AbstractStringBuilder_init.2.1 10 = .ok (.aload_n 0, 1) := by decide +kernel
theorem d_AbstractStringBuilder_init_11 : decode m_AbstractStringBuilder_init.2.1 11 = .ok (.iload_n 1, 1) := by decide +kernel
theorem d_AbstractStringBuilder_init_12 : decode m_AbstractStringBuilder_init.2.1 12 = .ok (.newarray .byte, 2) := by decide +kernel
theorem d_AbstractStringBuilder_init_14 : decode m_AbstractStringBuilder_init.2.1 14 = .ok (.putfield 15, 3) := by decide +kernel
theorem d_AbstractStringBuilder_init_17 : decode m_AbstractStringBuilder_init.2.1 17 = .ok (.aload_n 0, 1) := by decide +kernel
theorem d_AbstractStringBuilder_init_18 : decode m_AbstractStringBuilder_init.2.1 18 = .ok (.iconst 0, 1) := by decide +kernel
theorem d_AbstractStringBuilder_init_19 : decode m_AbstractStringBuilder_init.2.1 19 = .ok (.putfield 22, 3) := by decide +kernel
theorem d_AbstractStringBuilder_init_22 : decode m_AbstractStringBuilder_init.2.1 22 = .ok (.goto 16, 3) := by decide +kernel
theorem d_AbstractStringBuilder_init_25 : decode m_AbstractStringBuilder_init.2.1 25 = .ok (.aload_n 0, 1) := by decide +kernel
theorem d_AbstractStringBuilder_init_26 : decode m_AbstractStringBuilder_init.2.1 26 = .ok (.iload_n 1, 1) := by decide +kernel
theorem d_AbstractStringBuilder_init_27 : decode m_AbstractStringBuilder_init.2.1 27 = .ok (.invokestatic 26, 3) := by decide +kernel
theorem d_AbstractStringBuilder_init_38 : decode m_AbstractStringBuilder_init.2.1 38 = .ok (.return_, 1) := by decide +kernel
theorem d_AbstractStringBuilder_length_0 : decode m_AbstractStringBuilder_length.2.1 0 = .ok (.aload_n 0, 1) := by decide +kernel
theorem d_AbstractStringBuilder_length_1 : decode m_AbstractStringBuilder_length.2.1 1 = .ok (.getfield 79, 3) := by decide +kernel
theorem d_AbstractStringBuilder_length_4 : decode m_AbstractStringBuilder_length.2.1 4 = .ok (.ireturn, 1) := by decide +kernel
theorem d_AbstractStringBuilder_setLength_0 : decode m_AbstractStringBuilder_setLength.2.1 0 = .ok (.iload_n 1, 1) := by decide +kernel
theorem d_AbstractStringBuilder_setLength_1 : decode m_AbstractStringBuilder_setLength.2.1 1 = .ok (.ifCond .ge 12, 3) := by decide +kernel
theorem d_AbstractStringBuilder_setLength_4 : decode m_AbstractStringBuilder_setLength.2.1 4 = .ok (.new 129, 3) := by decide +kernel
theorem d_AbstractStringBuilder_setLength_13 : decode m_AbstractStringBuilder_setLength.2.1 13 = .ok (.aload_n 0, 1) := by decide +kernel
theorem d_AbstractStringBuilder_setLength_14 : decode m_AbstractStringBuilder_setLength.2.1 14 = .ok (.iload_n 1, 1) := by decide +kernel
theorem d_AbstractStringBuilder_setLength_15 : decode m_AbstractStringBuilder_setLength.2.1 15 = .ok (.invokevirtual 100, 3) := by decide +kernel
theorem d_AbstractStringBuilder_setLength_18 : decode m_AbstractStringBuilder_setLength.2.1 18 = .ok (.aload_n 0, 1) := by decide +kernel
theorem d_AbstractStringBuilder_setLength_19 : decode m_AbstractStringBuilder_setLength.2.1 19 = .ok (.getfield 79, 3) := by decide +kernel
theorem d_AbstractStringBuilder_setLength_22 : decode m_AbstractStringBuilder_setLength.2.1 22 = .ok (.iload_n 1, 1) := by decide +kernel
theorem d_AbstractStringBuilder_setLength_23 : decode m_AbstractStringBuilder_setLength.2.1 23 = .ok (.if_icmp .ge 40, 3) := by decide +kernel
theorem d_AbstractStringBuilder_setLength_26 : decode m_AbstractStringBuilder_setLength.2.1 26 = .ok (.aload_n 0, 1) := by decide +kernel
theorem d_AbstractStringBuilder_setLength_27 : decode m_AbstractStringBuilder_setLength.2.1 27 = .ok (.invokevirtual 83, 3) := by decide +kernel
theorem d_AbstractStringBuilder_setLength_30 : decode m_AbstractStringBuilder_setLength.2.1 30 = .ok (.ifCond .eq 18, 3) := by decide +kernel
theorem d_AbstractStringBuilder_setLength_33 : decode m_AbstractStringBuilder_setLength.2.1 33 = .ok (.aload_n 0, 1) := by decide +kernel
theorem d_AbstractStringBuilder_setLength_34 : decode m_AbstractStringBuilder_setLength.2.1 34 = .ok (.getfield 15, 3) := by decide +kernel
theorem d_AbstractStringBuilder_setLength_37 : decode m_AbstractStringBuilder_setLength.2.1 37 = .ok (.aload_n 0, 1) := by decide +kernel
theorem d_AbstractStringBuilder_setLength_38 : decode m_AbstractStringBuilder_setLength.2.1 38 = .ok (.getfield 79, 3) := by decide +kernel
theorem d_AbstractStringBuilder_setLength_41 : decode m_AbstractStringBuilder_setLength.2.1 41 = .ok (.iload_n 1, 1) := by decide +kernel
theorem d_AbstractStringBuilder_setLength_42 : decode m_AbstractStringBuilder_setLength.2.1 42 = .ok (.invokestatic 133, 3) := by decide +kernel
theorem d_AbstractStringBuilder_setLength_48 : decode m_AbstractStringBuilder_setLength.2.1 48 = .ok (.aload_n 0, 1) := by decide +kernel
theorem d_AbstractStringBuilder_setLength_49 : decode m_AbstractStringBuilder_setLength.2.1 49 = .ok (.getfield 15, 3) := by decide +kernel
theorem d_AbstractStringBuilder_setLength_52 : decode m_AbstractStringBuilder_setLength.2.1 52 = .ok (.aload_n 0, 1) := by decide +kernel
theorem d_AbstractStringBuilder_setLength_53 : decode m_AbstractStringBuilder_setLength.2.1 53 = .ok (.getfield 79, 3) := by decide +kernel
theorem d_AbstractStringBuilder_setLength_56 : decode m_AbstractStringBuilder_setLength.2.1 56 = .ok (.iload_n 1, 1) := by decide +kernel
theorem d_AbstractStringBuilder_setLength_57 : decode m_AbstractStringBuilder_setLength.2.1 57 = .ok (.invokestatic 137, 3) := by decide +kernel
theorem d_AbstractStringBuilder_setLength_63 : decode m_AbstractStringBuilder_setLength.2.1 63 = .ok (.aload_n 0, 1) := by decide +kernel
theorem d_AbstractStringBuilder_setLength_64 : decode m_AbstractStringBuilder_setLength.2.1 64 = .ok (.getfield 79, 3) := by decide +kernel
theorem d_AbstractStringBuilder_setLength_67 : decode m_AbstractStringBuilder_setLength.2.1 67 = .ok (.iload_n 1, 1) := by decide +kernel
theorem d_AbstractStringBuilder_setLength_68 : decode m_AbstractStringBuilder_setLength.2.1 68 = .ok (.if_icmp .le 8, 3) := by decide +kernel
theorem d_AbstractStringBuilder_setLength_71 : decode m_AbstractStringBuilder_setLength.2.1 71 = .ok (.aload_n 0, 1) := by decide +kernel
theorem d_AbstractStringBuilder_setLength_72 : decode m_AbstractStringBuilder_setLength.2.1 72 = .ok (.iconst 1, 1) := by decide +kernel
theorem d_AbstractStringBuilder_setLength_73 : decode m_AbstractStringBuilder_setLength.2.1 73 = .ok (.putfield 73, 3) := by decide +kernel
theorem d_AbstractStringBuilder_setLength_76 : decode m_AbstractStringBuilder_setLength.2.1 76 = .ok (.aload_n 0, 1) := by decide +kernel
theorem d_AbstractStringBuilder_setLength_77 : decode m_AbstractStringBuilder_setLength.2.1 77 = .ok (.iload_n 1, 1) := by decide +kernel
theorem d_AbstractStringBuilder_setLength_78 : decode m_AbstractStringBuilder_setLength.2.1 78 = .ok (.putfield 79, 3) := by decide +kernel
theorem d_AbstractStringBuilder_setLength_81 : decode m_AbstractStringBuilder_setLength.2.1 81 = .ok (.return_, 1) := by decide +kernel
theorem d_Added_before_0 : decode m_Added_before.2.1 0 = .ok (.aload_n 0, 1) := by decide +kernel
theorem d_Added_before_1 : decode m_Added_before.2.1 1 = .ok (.getfield 7, 3) := by decide +kernel
theorem d_Added_before_4 : decode m_Added_before.2.1 4 = .ok (.areturn, 1) := by decide +kernel
theorem d_Record_init_0 : decode m_Record_init.2.1 0 = .ok (.aload_n 0, 1) := by decide +kernel
theorem d_Record_init_1 : decode m_Record_init.2.1 1 = .ok (.invokespecial 1, 3) := by decide +kernel
theorem d_Record_init_4 : decode m_Record_init.2.1 4 = .ok (.return_, 1) := by decide +kernel
theorem d_Added_init_0 : decode m_Added_init.2.1 0 = .ok (.aload_n 0, 1) := by decide +kernel
theorem d_Added_init_1 : decode m_Added_init.2.1 1 = .ok (.invokespecial 1, 3) := by decide +kernel
theorem d_Added_init_4 : decode m_Added_init.2.1 4 = .ok (.aload_n 0, 1) := by decide +kernel
theorem d_Added_init_5 : decode m_Added_init.2.1 5 = .ok (.aload_n 1, 1) := by decide +kernel
theorem d_Added_init_6 : decode m_Added_init.2.1 6 = .ok (.putfield 7, 3) := by decide +kernel
theorem d_Added_init_9 : decode m_Added_init.2.1 9 = .ok (.aload_n 0, 1) := by decide +kernel
theorem d_Added_init_10 : decode m_Added_init.2.1 10 = .ok (.aload_n 2, 1) := by decide +kernel
theorem d_Added_init_11 : decode m_Added_init.2.1 11 = .ok (.putfield 13, 3) := by decide +kernel
theorem d_Added_init_14 : decode m_Added_init.2.1 14 = .ok (.return_, 1) := by decide +kernel
theorem d_Entry_next_0 : decode m_Entry_next.2.1 0 = .ok (.aload_n 0, 1) := by decide +kernel
theorem d_Entry_next_1 : decode m_Entry_next.2.1 1 = .ok (.getfield 17, 3) := by decide +kernel
theorem d_Entry_next_4 : decode m_Entry_next.2.1 4 = .ok (.areturn, 1) := by decide +kernel
theorem d_Dict_drop_0 : decode m_Dict_drop.2.1 0 = .ok (.aload_n 0, 1) := by decide +kernel
theorem d_Dict_drop_1 : decode m_Dict_drop.2.1 1 = .ok (.aload_n 0, 1) := by decide +kernel
theorem d_Dict_drop_2 : decode m_Dict_drop.2.1 2 = .ok (.getfield 16, 3) := by decide +kernel
theorem d_Dict_drop_5 : decode m_Dict_drop.2.1 5 = .ok (.invokevirtual 26, 3) := by decide +kernel
theorem d_Dict_drop_8 : decode m_Dict_drop.2.1 8 = .ok (.putfield 16, 3) := by decide +kernel
theorem d_Dict_drop_11 : decode m_Dict_drop.2.1 11 = .ok (.aload_n 0, 1) := by decide +kernel
theorem d_Dict_drop_12 : decode m_Dict_drop.2.1 12 = .ok (.dup, 1) := by decide +kernel
theorem d_Dict_drop_13 : decode m_Dict_drop.2.1 13 = .ok (.getfield 40, 3) := by decide +kernel
theorem d_Dict_drop_16 : decode m_Dict_drop.2.1 16 = .ok (.iconst 1, 1) := by decide +kernel
theorem d_Dict_drop_17 : decode m_Dict_drop.2.1 17 = .ok (.isub, 1) := by decide +kernel
theorem d_Dict_drop_18 : decode m_Dict_drop.2.1 18 = .ok (.putfield 40, 3) := by decide +kernel
theorem d_Dict_drop_21 : decode m_Dict_drop.2.1 21 = .ok (.return_, 1) := by decide +kernel
theorem d_Added_undo_0 : decode m_Added_undo.2.1 0 = .ok (.aload_n 0, 1) := by decide +kernel
theorem d_Added_undo_1 : decode m_Added_undo.2.1 1 = .ok (.getfield 13, 3) := by decide +kernel
theorem d_Added_undo_4 : decode m_Added_undo.2.1 4 = .ok (.invokevirtual 17, 3) := by decide +kernel
theorem d_Added_undo_7 : decode m_Added_undo.2.1 7 = .ok (.return_, 1) := by decide +kernel
theorem d_ArrayList_add1_0 : decode m_ArrayList_add1.2.1 0 = .ok (.iload_n 3, 1) := by decide +kernel
theorem d_ArrayList_add1_1 : decode m_ArrayList_add1.2.1 1 = .ok (.aload_n 2, 1) := by decide +kernel
theorem d_ArrayList_add1_2 : decode m_ArrayList_add1.2.1 2 = .ok (.arraylength, 1) := by decide +kernel
theorem d_ArrayList_add1_3 : decode m_ArrayList_add1.2.1 3 = .ok (.if_icmp .ne 8, 3) := by decide +kernel
theorem d_ArrayList_add1_6 : decode m_ArrayList_add1.2.1 6 = .ok (.aload_n 0, 1) := by decide +kernel
theorem d_ArrayList_add1_7 : decode m_ArrayList_add1.2.1 7 = .ok (.invokevirtual 129, 3) := by decide +kernel
theorem d_ArrayList_add1_11 : decode m_ArrayList_add1.2.1 11 = .ok (.aload_n 2, 1) := by decide +kernel
theorem d_ArrayList_add1_12 : decode m_ArrayList_add1.2.1 12 = .ok (.iload_n 3, 1) := by decide +kernel
theorem d_ArrayList_add1_13 : decode m_ArrayList_add1.2.1 13 = .ok (.aload_n 1, 1) := by decide +kernel
theorem d_ArrayList_add1_14 : decode m_ArrayList_add1.2.1 14 = .ok (.aastore, 1) := by decide +kernel
theorem d_ArrayList_add1_15 : decode m_ArrayList_add1.2.1 15 = .ok (.aload_n 0, 1) := by decide +kernel
theorem d_ArrayList_add1_16 : decode m_ArrayList_add1.2.1 16 = .ok (.iload_n 3, 1) := by decide +kernel
theorem d_ArrayList_add1_17 : decode m_ArrayList_add1.2.1 17 = .ok (.iconst 1, 1) := by decide +kernel
theorem d_ArrayList_add1_18 : decode m_ArrayList_add1.2.1 18 = .ok (.iadd, 1) := by decide +kernel
theorem d_ArrayList_add1_19 : decode m_ArrayList_add1.2.1 19 = .ok (.putfield 48, 3) := by decide +kernel
theorem d_ArrayList_add1_22 : decode m_ArrayList_add1.2.1 22 = .ok (.return_, 1) := by decide +kernel
theorem d_ArrayList_add0_0 : decode m_ArrayList_add0.2.1 0 = .ok (.aload_n 0, 1) := by decide +kernel
theorem d_ArrayList_add0_1 : decode m_ArrayList_add0.2.1 1 = .ok (.dup, 1) := by decide +kernel
theorem d_ArrayList_add0_2 : decode m_ArrayList_add0.2.1 2 = .ok (.getfield 63, 3) := by decide +kernel
theorem d_ArrayList_add0_5 : decode m_ArrayList_add0.2.1 5 = .ok (.iconst 1, 1) := by decide +kernel
theorem d_ArrayList_add0_6 : decode m_ArrayList_add0.2.1 6 = .ok (.iadd, 1) := by decide +kernel
theorem d_ArrayList_add0_7 : decode m_ArrayList_add0.2.1 7 = .ok (.putfield 63, 3) := by decide +kernel
theorem d_ArrayList_add0_10 : decode m_ArrayList_add0.2.1 10 = .ok (.aload_n 0, 1) := by decide +kernel
theorem d_ArrayList_add0_11 : decode m_ArrayList_add0.2.1 11 = .ok (.aload_n 1, 1) := by decide +kernel
theorem d_ArrayList_add0_12 : decode m_ArrayList_add0.2.1 12 = .ok (.aload_n 0, 1) := by decide +kernel
theorem d_ArrayList_add0_13 : decode m_ArrayList_add0.2.1 13 = .ok (.getfield 9, 3) := by decide +kernel
theorem d_ArrayList_add0_16 : decode m_ArrayList_add0.2.1 16 = .ok (.aload_n 0, 1) := by decide +kernel
theorem d_ArrayList_add0_17 : decode m_ArrayList_add0.2.1 17 = .ok (.getfield 48, 3) := by decide +kernel
theorem d_ArrayList_add0_20 : decode m_ArrayList_add0.2.1 20 = .ok (.invokevirtual 131, 3) := by decide +kernel
theorem d_ArrayList_add0_23 : decode m_ArrayList_add0.2.1 23 = .ok (.iconst 1, 1) := by decide +kernel
theorem d_ArrayList_add0_24 : decode m_ArrayList_add0.2.1 24 = .ok (.ireturn, 1) := by decide +kernel
theorem d_ArrayList_elementData_0 : decode m_ArrayList_elementData.2.1 0 = .ok (.aload_n 0, 1) := by decide +kernel
theorem d_ArrayList_elementData_1 : decode m_ArrayList_elementData.2.1 1 = .ok (.getfield 9, 3) := by decide +kernel
theorem d_ArrayList_elementData_4 : decode m_ArrayList_elementData.2.1 4 = .ok (.iload_n 1, 1) := by decide +kernel
theorem d_ArrayList_elementData_5 : decode m_ArrayList_elementData.2.1 5 = .ok (.aaload, 1) := by decide +kernel
theorem d_ArrayList_elementData_6 : decode m_ArrayList_elementData.2.1 6 = .ok (.areturn, 1) := by decide +kernel
theorem d_ArrayList_fastRemove_0 : decode m_ArrayList_fastRemove.2.1 0 = .ok (.aload_n 0, 1) := by decide +kernel
theorem d_ArrayList_fastRemove_1 : decode m_ArrayList_fastRemove.2.1 1 = .ok (.dup, 1) := by decide +kernel
theorem d_ArrayList_fastRemove_2 : decode m_ArrayList_fastRemove.2.1 2 = .ok (.getfield 63, 3) := by decide +kernel
theorem d_ArrayList_fastRemove_5 : decode m_ArrayList_fastRemove.2.1 5 = .ok (.iconst 1, 1) := by decide +kernel
theorem d_ArrayList_fastRemove_6 : decode m_ArrayList_fastRemove.2.1 6 = .ok (.iadd, 1) := by decide +kernel
theorem d_ArrayList_fastRemove_7 : decode m_ArrayList_fastRemove.2.1 7 = .ok (.putfield 63, 3) := by decide +kernel
theorem d_ArrayList_fastRemove_10 : decode m_ArrayList_fastRemove.2.1 10 = .ok (.aload_n 0, 1) := by decide +kernel
theorem d_ArrayList_fastRemove_11 : decode m_ArrayList_fastRemove.2.1 11 = .ok (.getfield 48, 3) := by decide +kernel
theorem d_ArrayList_fastRemove_14 : decode m_ArrayList_fastRemove.2.1 14 = .ok (.iconst 1, 1) := by decide +kernel
theorem d_ArrayList_fastRemove_15 : decode m_ArrayList_fastRemove.2.1 15 = .ok (.isub, 1) := by decide +kernel
theorem d_ArrayList_fastRemove_16 : decode m_ArrayList_fastRemove.2.1 16 = .ok (.dup, 1) := by decide +kernel
theorem d_ArrayList_fastRemove_17 : decode m_ArrayList_fastRemove.2.1 17 = .ok (.istore_n 3, 1) := by decide +kernel
theorem d_ArrayList_fastRemove_18 : decode m_ArrayList_fastRemove.2.1 18 = .ok (.iload_n 2, 1) := by decide +kernel
theorem d_ArrayList_fastRemove_19 : decode m_ArrayList_fastRemove.2.1 19 = .ok (.if_icmp .le 15, 3) := by decide +kernel
theorem d_ArrayList_fastRemove_22 : decode m_ArrayList_fastRemove.2.1 22 = .ok (.aload_n 1, 1) := by decide +kernel
theorem d_ArrayList_fastRemove_23 : decode m_ArrayList_fastRemove.2.1 23 = .ok (.iload_n 2, 1) := by decide +kernel
theorem d_ArrayList_fastRemove_24 : decode m_ArrayList_fastRemove.2.1 24 = .ok (.iconst 1, 1) := by decide +kernel
theorem d_ArrayList_fastRemove_25 : decode m_ArrayList_fastRemove.2.1 25 = .ok (.iadd, 1) := by decide +kernel
theorem d_ArrayList_fastRemove_26 : decode m_ArrayList_fastRemove.2.1 26 = .ok (.aload_n 1, 1) := by decide +kernel
theorem d_ArrayList_fastRemove_27 : decode m_ArrayList_fastRemove.2.1 27 = .ok (.iload_n 2, 1) := by decide +kernel
theorem d_ArrayList_fastRemove_28 : decode m_ArrayList_fastRemove.2.1 28 = .ok (.iload_n 3, 1) := by decide +kernel
theorem d_ArrayList_fastRemove_29 : decode m_ArrayList_fastRemove.2.1 29 = .ok (.iload_n 2, 1) := by decide +kernel
theorem d_ArrayList_fastRemove_30 : decode m_ArrayList_fastRemove.2.1 30 = .ok (.isub, 1) := by decide +kernel
theorem d_ArrayList_fastRemove_31 : decode m_ArrayList_fastRemove.2.1 31 = .ok (.invokestatic 112, 3) := by decide +kernel
theorem d_ArrayList_fastRemove_34 : decode m_ArrayList_fastRemove.2.1 34 = .ok (.aload_n 1, 1) := by decide +kernel
theorem d_ArrayList_fastRemove_35 : decode m_ArrayList_fastRemove.2.1 35 = .ok (.aload_n 0, 1) := by decide +kernel
theorem d_ArrayList_fastRemove_36 : decode m_ArrayList_fastRemove.2.1 36 = .ok (.iload_n 3, 1) := by decide +kernel
theorem d_ArrayList_fastRemove_37 : decode m_ArrayList_fastRemove.2.1 37 = .ok (.dup_x1, 1) := by decide +kernel
theorem d_ArrayList_fastRemove_38 : decode m_ArrayList_fastRemove.2.1 38 = .ok (.putfield 48, 3) := by decide +kernel
theorem d_ArrayList_fastRemove_41 : decode m_ArrayList_fastRemove.2.1 41 = .ok (.aconst_null, 1) := by decide +kernel
theorem d_ArrayList_fastRemove_42 : decode m_ArrayList_fastRemove.2.1 42 = .ok (.aastore, 1) := by decide +kernel
theorem d_ArrayList_fastRemove_43 : decode m_ArrayList_fastRemove.2.1 43 = .ok (.return_, 1) := by decide +kernel
theorem d_Objects_checkIndex_0 : decode m_Objects_checkIndex.2.1 0 = .ok (.iload_n 0, 1) := by decide +kernel
theorem d_Objects_checkIndex_1 : decode m_Objects_checkIndex.2.1 1 = .ok (.iload_n 1, 1) := by decide +kernel
theorem d_Objects_checkIndex_2 : decode m_Objects_checkIndex.2.1 2 = .ok (.aconst_null, 1) := by decide +kernel
theorem d_Objects_checkIndex_3 : decode m_Objects_checkIndex.2.1 3 = .ok (.invokestatic 105, 3) := by decide +kernel
theorem d_Objects_checkIndex_6 : decode m_Objects_checkIndex.2.1 6 = .ok (.ireturn, 1) := by decide +kernel
theorem d_ArrayList_get_0 : decode m_ArrayList_get.2.1 0 = .ok (.iload_n 1, 1) := by decide +kernel
theorem d_ArrayList_get_1 : decode m_ArrayList_get.2.1 1 = .ok (.aload_n 0, 1) := by decide +kernel
theorem d_ArrayList_get_2 : decode m_ArrayList_get.2.1 2 = .ok (.getfield 48, 3) := by decide +kernel
theorem d_ArrayList_get_5 : decode m_ArrayList_get.2.1 5 = .ok (.invokestatic 118, 3) := by decide +kernel
theorem d_ArrayList_get_8 : decode m_ArrayList_get.2.1 8 = .ok (.pop, 1) := by decide +kernel
theorem d_ArrayList_get_9 : decode m_ArrayList_get.2.1 9 = .ok (.aload_n 0, 1) := by decide +kernel
theorem d_ArrayList_get_10 : decode m_ArrayList_get.2.1 10 = .ok (.iload_n 1, 1) := by decide +kernel
theorem d_ArrayList_get_11 : decode m_ArrayList_get.2.1 11 = .ok (.invokevirtual 123, 3) := by decide +kernel
theorem d_ArrayList_get_14 : decode m_ArrayList_get.2.1 14 = .ok (.areturn, 1) := by decide +kernel
theorem d_ArrayList_init_0 : decode m_ArrayList_init.2.1 0 = .ok (.aload_n 0, 1) := by decide +kernel
theorem d_ArrayList_init_1 : decode m_ArrayList_init.2.1 1 = .ok (.invokespecial 1, 3) := by decide +kernel
theorem d_ArrayList_init_4 : decode m_ArrayList_init.2.1 4 = .ok (.iload_n 1, 1) := by decide +kernel
theorem d_ArrayList_init_5 : decode m_ArrayList_init.2.1 5 = .ok (.ifCond .le 14, 3) := by decide +kernel
theorem d_ArrayList_init_8 : decode m_ArrayList_init.2.1 8 = .ok (.aload_n 0, 1) := by decide +kernel
theorem d_ArrayList_init_9 : decode m_ArrayList_init.2.1 9 = .ok (.iload_n 1, 1) := by decide +kernel
theorem d_ArrayList_init_10 : decode m_ArrayList_init.2.1 10 = .ok (.anewarray 7, 3) := by decide +kernel
theorem d_ArrayList_init_13 : decode m_ArrayList_init.2.1 13 = .ok (.putfield 9, 3) := by decide +kernel
theorem d_ArrayList_init_16 : decode m_ArrayList_init.2.1 16 = .ok (.goto 44, 3) := by decide +kernel
theorem d_ArrayList_init_19 : decode m_ArrayList_init.2.1 19 = .ok (.iload_n 1, 1) := by decide +kernel
theorem d_ArrayList_init_20 : decode m_ArrayList_init.2.1 20 = .ok (.ifCond .ne 13, 3) := by decide +kernel
theorem d_ArrayList_init_23 : decode m_ArrayList_init.2.1 23 = .ok (.aload_n 0, 1) := by decide +kernel
theorem d_ArrayList_init_24 : decode m_ArrayList_init.2.1 24 = .ok (.getstatic 15, 3) := by decide +kernel
theorem d_ArrayList_init_33 : decode m_ArrayList_init.2.1 33 = .ok (.new 18, 3) := by decide +kernel
theorem d_ArrayList_init_36 : decode m_ArrayList_init.2.1 36 = .ok (.dup, 1) := by decide +kernel
theorem d_ArrayList_init_37 : decode m_ArrayList_init.2.1 37 = .ok (.new 20, 3) := by decide +kernel
theorem d_ArrayList_init_40 : decode m_ArrayList_init.2.1 40 = .ok (.dup, 1) := by decide +kernel
theorem d_ArrayList_init_41 : decode m_ArrayList_init.2.1 41 = .ok (.invokespecial 22, 3) := by decide +kernel
theorem d_ArrayList_init_60 : decode m_ArrayList_init.2.1 60 = .ok (.return_, 1) := by decide +kernel
theorem d_ArrayList_remove_0 : decode m_ArrayList_remove.2.1 0 = .ok (.iload_n 1, 1) := by decide +kernel
theorem d_ArrayList_remove_1 : decode m_ArrayList_remove.2.1 1 = .ok (.aload_n 0, 1) := by decide +kernel
theorem d_ArrayList_remove_2 : decode m_ArrayList_remove.2.1 2 = .ok (.getfield 48, 3) := by decide +kernel
theorem d_ArrayList_remove_5 : decode m_ArrayList_remove.2.1 5 = .ok (.invokestatic 118, 3) := by decide +kernel
theorem d_ArrayList_remove_8 : decode m_ArrayList_remove.2.1 8 = .ok (.pop, 1) := by decide +kernel
theorem d_ArrayList_remove_9 : decode m_ArrayList_remove.2.1 9 = .ok (.aload_n 0, 1) := by decide +kernel
theorem d_ArrayList_remove_10 : decode m_ArrayList_remove.2.1 10 = .ok (.getfield 9, 3) := by decide +kernel
theorem d_ArrayList_remove_13 : decode m_ArrayList_remove.2.1 13 = .ok (.astore_n 2, 1) := by decide +kernel
theorem d_ArrayList_remove_14 : decode m_ArrayList_remove.2.1 14 = .ok (.aload_n 2, 1) := by decide +kernel
theorem d_ArrayList_remove_15 : decode m_ArrayList_remove.2.1 15 = .ok (.iload_n 1, 1) := by decide +kernel
theorem d_ArrayList_remove_16 : decode m_ArrayList_remove.2.1 16 = .ok (.aaload, 1) := by decide +kernel
theorem d_ArrayList_remove_17 : decode m_ArrayList_remove.2.1 17 = .ok (.astore_n 3, 1) := by decide +kernel
theorem d_ArrayList_remove_18 : decode m_ArrayList_remove.2.1 18 = .ok (.aload_n 0, 1) := by decide +kernel
theorem d_ArrayList_remove_19 : decode m_ArrayList_remove.2.1 19 = .ok (.aload_n 2, 1) := by decide +kernel
theorem d_ArrayList_remove_20 : decode m_ArrayList_remove.2.1 20 = .ok (.iload_n 1, 1) := by decide +kernel
theorem d_ArrayList_remove_21 : decode m_ArrayList_remove.2.1 21 = .ok (.invokevirtual 144, 3) := by decide +kernel
theorem d_ArrayList_remove_24 : decode m_ArrayList_remove.2.1 24 = .ok (.aload_n 3, 1) := by decide +kernel
theorem d_ArrayList_remove_25 : decode m_ArrayList_remove.2.1 25 = .ok (.areturn, 1) := by decide +kernel
theorem d_ArrayList_size_0 : decode m_ArrayList_size.2.1 0 = .ok (.aload_n 0, 1) := by decide +kernel
theorem d_ArrayList_size_1 : decode m_ArrayList_size.2.1 1 = .ok (.getfield 48, 3) := by decide +kernel
theorem d_ArrayList_size_4 : decode m_ArrayList_size.2.1 4 = .ok (.ireturn, 1) := by decide +kernel
theorem d_Arrays_checkLength_0 : decode m_Arrays_checkLength.2.1 0 = .ok (.iload_n 1, 1) := by decide +kernel
theorem d_Arrays_checkLength_1 : decode m_Arrays_checkLength.2.1 1 = .ok (.iload_n 0, 1) := by decide +kernel
theorem d_Arrays_checkLength_2 : decode m_Arrays_checkLength.2.1 2 = .ok (.if_icmp .ge 35, 3) := by decide +kernel
theorem d_Arrays_checkLength_5 : decode m_Arrays_checkLength.2.1 5 = .ok (.new 43, 3) := by decide +kernel
theorem d_Arrays_checkLength_8 : decode m_Arrays_checkLength.2.1 8 = .ok (.dup, 1) := by decide +kernel
theorem d_Arrays_checkLength_9 : decode m_Arrays_checkLength.2.1 9 = .ok (.new 45, 3) := by decide +kernel
theorem d_Arrays_checkLength_12 : decode m_Arrays_checkLength.2.1 12 = .ok (.dup, 1) := by decide +kernel
theorem d_Arrays_checkLength_13 : decode m_Arrays_checkLength.2.1 13 = .ok (.invokespecial 47, 3) := by decide +kernel
theorem d_Arrays_checkLength_37 : decode m_Arrays_checkLength.2.1 37 = .ok (.return_, 1) := by decide +kernel
theorem d_Arrays_copyOfRangeByte_0 : decode m_Arrays_copyOfRangeByte.2.1 0 = .ok (.iload_n 1, 1) := by decide +kernel
theorem d_Arrays_copyOfRangeByte_1 : decode m_Arrays_copyOfRangeByte.2.1 1 = .ok (.iload_n 2, 1) := by decide +kernel
theorem d_Arrays_copyOfRangeByte_2 : decode m_Arrays_copyOfRangeByte.2.1 2 = .ok (.invokestatic 343, 3) := by decide +kernel
theorem d_Arrays_copyOfRangeByte_5 : decode m_Arrays_copyOfRangeByte.2.1 5 = .ok (.iload_n 2, 1) := by decide +kernel
theorem d_Arrays_copyOfRangeByte_6 : decode m_Arrays_copyOfRangeByte.2.1 6 = .ok (.iload_n 1, 1) := by decide +kernel
theorem d_Arrays_copyOfRangeByte_7 : decode m_Arrays_copyOfRangeByte.2.1 7 = .ok (.isub, 1) := by decide +kernel
theorem d_Arrays_copyOfRangeByte_8 : decode m_Arrays_copyOfRangeByte.2.1 8 = .ok (.istore_n 3, 1) := by decide +kernel
theorem d_Arrays_copyOfRangeByte_9 : decode m_Arrays_copyOfRangeByte.2.1 9 = .ok (.iload_n 3, 1) := by decide +kernel
theorem d_Arrays_copyOfRangeByte_10 : decode m_Arrays_copyOfRangeByte.2.1 10 = .ok (.newarray .byte, 2) := by decide +kernel
theorem d_Arrays_copyOfRangeByte_12 : decode m_Arrays_copyOfRangeByte.2.1 12 = .ok (.astore 4, 2) := by decide +kernel
theorem d_Arrays_copyOfRangeByte_14 : decode m_Arrays_copyOfRangeByte.2.1 14 = .ok (.aload_n 0, 1) := by decide +kernel
theorem d_Arrays_copyOfRangeByte_15 : decode m_Arrays_copyOfRangeByte.2.1 15 = .ok (.iload_n 1, 1) := by decide +kernel
theorem d_Arrays_copyOfRangeByte_16 : decode m_Arrays_copyOfRangeByte.2.1 16 = .ok (.aload 4, 2) := by decide +kernel
theorem d_Arrays_copyOfRangeByte_18 : decode m_Arrays_copyOfRangeByte.2.1 18 = .ok (.iconst 0, 1) := by decide +kernel
theorem d_Arrays_copyOfRangeByte_19 : decode m_Arrays_copyOfRangeByte.2.1 19 = .ok (.aload_n 0, 1) := by decide +kernel
theorem d_Arrays_copyOfRangeByte_20 : decode m_Arrays_copyOfRangeByte.2.1 20 = .ok (.arraylength, 1) := by decide +kernel
theorem d_Arrays_copyOfRangeByte_21 : decode m_Arrays_copyOfRangeByte.2.1 21 = .ok (.iload_n 1, 1) := by decide +kernel
theorem d_Arrays_copyOfRangeByte_22 : decode m_Arrays_copyOfRangeByte.2.1 22 = .ok (.isub, 1) := by decide +kernel
theorem d_Arrays_copyOfRangeByte_23 : decode m_Arrays_copyOfRangeByte.2.1 23 = .ok (.iload_n 3, 1) := by decide +kernel
theorem d_Arrays_copyOfRangeByte_24 : decode m_Arrays_copyOfRangeByte.2.1 24 = .ok (.invokestatic 304, 3) := by decide +kernel
theorem d_Arrays_copyOfRangeByte_27 : decode m_Arrays_copyOfRangeByte.2.1 27 = .ok (.invokestatic 150, 3) := by decide +kernel
theorem d_Arrays_copyOfRangeByte_30 : decode m_Arrays_copyOfRangeByte.2.1 30 = .ok (.aload 4, 2) := by decide +kernel
theorem d_Arrays_copyOfRangeByte_32 : decode m_Arrays_copyOfRangeByte.2.1 32 = .ok (.areturn, 1) := by decide +kernel
theorem d_Arrays_copyOfRange_0 : decode m_Arrays_copyOfRange.2.1 0 = .ok (.iload_n 1, 1) := by decide +kernel
theorem d_Arrays_copyOfRange_1 : decode m_Arrays_copyOfRange.2.1 1 = .ok (.ifCond .ne 9, 3) := by decide +kernel
theorem d_Arrays_copyOfRange_4 : decode m_Arrays_copyOfRange.2.1 4 = .ok (.iload_n 2, 1) := by decide +kernel
theorem d_Arrays_copyOfRange_5 : decode m_Arrays_copyOfRange.2.1 5 = .ok (.aload_n 0, 1) := by decide +kernel
theorem d_Arrays_copyOfRange_6 : decode m_Arrays_copyOfRange.2.1 6 = .ok (.arraylength, 1) := by decide +kernel
theorem d_Arrays_copyOfRange_7 : decode m_Arrays_copyOfRange.2.1 7 = .ok (.if_icmp .eq 10, 3) := by decide +kernel
theorem d_Arrays_copyOfRange_10 : decode m_Arrays_copyOfRange.2.1 10 = .ok (.aload_n 0, 1) := by decide +kernel
theorem d_Arrays_copyOfRange_11 : decode m_Arrays_copyOfRange.2.1 11 = .ok (.iload_n 1, 1) := by decide +kernel
theorem d_Arrays_copyOfRange_12 : decode m_Arrays_copyOfRange.2.1 12 = .ok (.iload_n 2, 1) := by decide +kernel
theorem d_Arrays_copyOfRange_13 : decode m_Arrays_copyOfRange.2.1 13 = .ok (.invokestatic 339, 3) := by decide +kernel
theorem d_Arrays_copyOfRange_16 : decode m_Arrays_copyOfRange.2.1 16 = .ok (.areturn, 1) := by decide +kernel
theorem d_Arrays_copyOfRange_17 : decode m_Arrays_copyOfRange.2.1 17 = .ok (.aload_n 0, 1) := by decide +kernel
theorem d_Arrays_copyOfRange_18 : decode m_Arrays_copyOfRange.2.1 18 = .ok (.invokevirtual 310, 3) := by decide +kernel
theorem d_Slot_init_0 : decode m_Slot_init.2.1 0 = .ok (.aload_n 0, 1) := by decide +kernel
theorem d_Slot_init_1 : decode m_Slot_init.2.1 1 = .ok (.invokespecial 1, 3) := by decide +kernel
theorem d_Slot_init_4 : decode m_Slot_init.2.1 4 = .ok (.aload_n 0, 1) := by decide +kernel
theorem d_Slot_init_5 : decode m_Slot_init.2.1 5 = .ok (.getstatic 7, 3) := by decide +kernel
theorem d_Slot_init_8 : decode m_Slot_init.2.1 8 = .ok (.putfield 13, 3) := by decide +kernel
theorem d_Slot_init_11 : decode m_Slot_init.2.1 11 = .ok (.return_, 1) := by decide +kernel
theorem d_Entry_init_0 : decode m_Entry_init.2.1 0 = .ok (.aload_n 0, 1) := by decide +kernel
theorem d_Entry_init_1 : decode m_Entry_init.2.1 1 = .ok (.invokespecial 1, 3) := by decide +kernel
theorem d_Entry_init_4 : decode m_Entry_init.2.1 4 = .ok (.aload_n 0, 1) := by decide +kernel
theorem d_Entry_init_5 : decode m_Entry_init.2.1 5 = .ok (.aload_n 1, 1) := by decide +kernel
theorem d_Entry_init_6 : decode m_Entry_init.2.1 6 = .ok (.putfield 7, 3) := by decide +kernel
theorem d_Entry_init_9 : decode m_Entry_init.2.1 9 = .ok (.aload_n 0, 1) := by decide +kernel
theorem d_Entry_init_10 : decode m_Entry_init.2.1 10 = .ok (.aload_n 2, 1) := by decide +kernel
theorem d_Entry_init_11 : decode m_Entry_init.2.1 11 = .ok (.putfield 13, 3) := by decide +kernel
theorem d_Entry_init_14 : decode m_Entry_init.2.1 14 = .ok (.aload_n 0, 1) := by decide +kernel
theorem d_Entry_init_15 : decode m_Entry_init.2.1 15 = .ok (.aload_n 3, 1) := by decide +kernel
theorem d_Entry_init_16 : decode m_Entry_init.2.1 16 = .ok (.putfield 17, 3) := by decide +kernel
theorem d_Entry_init_19 : decode m_Entry_init.2.1 19 = .ok (.return_, 1) := by decide +kernel
theorem d_Entry_value_0 : decode m_Entry_value.2.1 0 = .ok (.aload_n 0, 1) := by decide +kernel
theorem d_Entry_value_1 : decode m_Entry_value.2.1 1 = .ok (.getfield 13, 3) := by decide +kernel
theorem d_Entry_value_4 : decode m_Entry_value.2.1 4 = .ok (.areturn, 1) := by decide +kernel
theorem d_Dict_add_0 : decode m_Dict_add.2.1 0 = .ok (.aload_n 0, 1) := by decide +kernel
theorem d_Dict_add_1 : decode m_Dict_add.2.1 1 = .ok (.new 21, 3) := by decide +kernel
theorem d_Dict_add_4 : decode m_Dict_add.2.1 4 = .ok (.dup, 1) := by decide +kernel
theorem d_Dict_add_5 : decode m_Dict_add.2.1 5 = .ok (.aload_n 1, 1) := by decide +kernel
theorem d_Dict_add_6 : decode m_Dict_add.2.1 6 = .ok (.new 34, 3) := by decide +kernel
theorem d_Dict_add_9 : decode m_Dict_add.2.1 9 = .ok (.dup, 1) := by decide +kernel
theorem d_Dict_add_10 : decode m_Dict_add.2.1 10 = .ok (.invokespecial 36, 3) := by decide +kernel
theorem d_Dict_add_13 : decode m_Dict_add.2.1 13 = .ok (.aload_n 0, 1) := by decide +kernel
theorem d_Dict_add_14 : decode m_Dict_add.2.1 14 = .ok (.getfield 16, 3) := by decide +kernel
theorem d_Dict_add_17 : decode m_Dict_add.2.1 17 = .ok (.invokespecial 37, 3) := by decide +kernel
theorem d_Dict_add_20 : decode m_Dict_add.2.1 20 = .ok (.putfield 16, 3) := by decide +kernel
theorem d_Dict_add_23 : decode m_Dict_add.2.1 23 = .ok (.aload_n 0, 1) := by decide +kernel
theorem d_Dict_add_24 : decode m_Dict_add.2.1 24 = .ok (.dup, 1) := by decide +kernel
theorem d_Dict_add_25 : decode m_Dict_add.2.1 25 = .ok (.getfield 40, 3) := by decide +kernel
theorem d_Dict_add_28 : decode m_Dict_add.2.1 28 = .ok (.iconst 1, 1) := by decide +kernel
theorem d_Dict_add_29 : decode m_Dict_add.2.1 29 = .ok (.iadd, 1) := by decide +kernel
theorem d_Dict_add_30 : decode m_Dict_add.2.1 30 = .ok (.putfield 40, 3) := by decide +kernel
theorem d_Dict_add_33 : decode m_Dict_add.2.1 33 = .ok (.aload_n 0, 1) := by decide +kernel
theorem d_Dict_add_34 : decode m_Dict_add.2.1 34 = .ok (.getfield 16, 3) := by decide +kernel
theorem d_Dict_add_37 : decode m_Dict_add.2.1 37 = .ok (.invokevirtual 30, 3) := by decide +kernel
theorem d_Dict_add_40 : decode m_Dict_add.2.1 40 = .ok (.areturn, 1) := by decide +kernel
theorem d_Entry_key_0 : decode m_Entry_key.2.1 0 = .ok (.aload_n 0, 1) := by decide +kernel
theorem d_Entry_key_1 : decode m_Entry_key.2.1 1 = .ok (.getfield 7, 3) := by decide +kernel
theorem d_Entry_key_4 : decode m_Entry_key.2.1 4 = .ok (.areturn, 1) := by decide +kernel
theorem d_Dict_find_0 : decode m_Dict_find.2.1 0 = .ok (.aload_n 0, 1) := by decide +kernel
theorem d_Dict_find_1 : decode m_Dict_find.2.1 1 = .ok (.getfield 16, 3) := by decide +kernel
theorem d_Dict_find_4 : decode m_Dict_find.2.1 4 = .ok (.astore_n 2, 1) := by decide +kernel
theorem d_Dict_find_5 : decode m_Dict_find.2.1 5 = .ok (.aload_n 2, 1) := by decide +kernel
theorem d_Dict_find_6 : decode m_Dict_find.2.1 6 = .ok (.ifnull 19, 3) := by decide +kernel
theorem d_Dict_find_9 : decode m_Dict_find.2.1 9 = .ok (.aload_n 2, 1) := by decide +kernel
theorem d_Dict_find_10 : decode m_Dict_find.2.1 10 = .ok (.invokevirtual 20, 3) := by decide +kernel
theorem d_Dict_find_13 : decode m_Dict_find.2.1 13 = .ok (.aload_n 1, 1) := by decide +kernel
theorem d_Dict_find_14 : decode m_Dict_find.2.1 14 = .ok (.if_acmp .eq 11, 3) := by decide +kernel
theorem d_Dict_find_17 : decode m_Dict_find.2.1 17 = .ok (.aload_n 2, 1) := by decide +kernel
theorem d_Dict_find_18 : decode m_Dict_find.2.1 18 = .ok (.invokevirtual 26, 3) := by decide +kernel
theorem d_Dict_find_21 : decode m_Dict_find.2.1 21 = .ok (.astore_n 2, 1) := by decide +kernel
theorem d_Dict_find_22 : decode m_Dict_find.2.1 22 = .ok (.goto (-17), 3) := by decide +kernel
theorem d_Dict_find_25 : decode m_Dict_find.2.1 25 = .ok (.aload_n 2, 1) := by decide +kernel
theorem d_Dict_find_26 : decode m_Dict_find.2.1 26 = .ok (.ifnonnull 7, 3) := by decide +kernel
theorem d_Dict_find_29 : decode m_Dict_find.2.1 29 = .ok (.aconst_null, 1) := by decide +kernel
theorem d_Dict_find_30 : decode m_Dict_find.2.1 30 = .ok (.goto 7, 3) := by decide +kernel
theorem d_Dict_find_33 : decode m_Dict_find.2.1 33 = .ok (.aload_n 2, 1) := by decide +kernel
theorem d_Dict_find_34 : decode m_Dict_find.2.1 34 = .ok (.invokevirtual 30, 3) := by decide +kernel
theorem d_Dict_find_37 : decode m_Dict_find.2.1 37 = .ok (.areturn, 1) := by decide +kernel
theorem d_Dict_init_0 : decode m_Dict_init.2.1 0 = .ok (.aload_n 0, 1) := by decide +kernel
theorem d_Dict_init_1 : decode m_Dict_init.2.1 1 = .ok (.invokespecial 1, 3) := by decide +kernel
theorem d_Dict_init_4 : decode m_Dict_init.2.1 4 = .ok (.aload_n 0, 1) := by decide +kernel
theorem d_Dict_init_5 : decode m_Dict_init.2.1 5 = .ok (.iload_n 1, 1) := by decide +kernel
theorem d_Dict_init_6 : decode m_Dict_init.2.1 6 = .ok (.putfield 7, 3) := by decide +kernel
theorem d_Dict_init_9 : decode m_Dict_init.2.1 9 = .ok (.aload_n 0, 1) := by decide +kernel
theorem d_Dict_init_10 : decode m_Dict_init.2.1 10 = .ok (.iload_n 2, 1) := by decide +kernel
theorem d_Dict_init_11 : decode m_Dict_init.2.1 11 = .ok (.putfield 13, 3) := by decide +kernel
theorem d_Dict_init_14 : decode m_Dict_init.2.1 14 = .ok (.return_, 1) := by decide +kernel
theorem d_Group_init_0 : decode m_Group_init.2.1 0 = .ok (.aload_n 0, 1) := by decide +kernel
theorem d_Group_init_1 : decode m_Group_init.2.1 1 = .ok (.invokespecial 1, 3) := by decide +kernel
theorem d_Group_init_4 : decode m_Group_init.2.1 4 = .ok (.return_, 1) := by decide +kernel
theorem d_Flow_init_0 : decode m_Flow_init.2.1 0 = .ok (.aload_n 0, 1) := by decide +kernel
theorem d_Flow_init_1 : decode m_Flow_init.2.1 1 = .ok (.invokespecial 3, 3) := by decide +kernel
theorem d_Flow_init_4 : decode m_Flow_init.2.1 4 = .ok (.return_, 1) := by decide +kernel
theorem d_P_need_0 : decode m_P_need.2.1 0 = .ok (.iload_n 1, 1) := by decide +kernel
theorem d_P_need_1 : decode m_P_need.2.1 1 = .ok (.ifCond .eq 4, 3) := by decide +kernel
theorem d_P_need_4 : decode m_P_need.2.1 4 = .ok (.return_, 1) := by decide +kernel
theorem d_P_need_5 : decode m_P_need.2.1 5 = .ok (.aload_n 0, 1) := by decide +kernel
theorem d_P_need_6 : decode m_P_need.2.1 6 = .ok (.iload_n 2, 1) := by decide +kernel
theorem d_P_need_7 : decode m_P_need.2.1 7 = .ok (.putfield 161, 3) := by decide +kernel
theorem d_P_need_10 : decode m_P_need.2.1 10 = .ok (.aload_n 0, 1) := by decide +kernel
theorem d_P_need_11 : decode m_P_need.2.1 11 = .ok (.iload_n 2, 1) := by decide +kernel
theorem d_P_need_12 : decode m_P_need.2.1 12 = .ok (.putfield 164, 3) := by decide +kernel
theorem d_P_need_15 : decode m_P_need.2.1 15 = .ok (.new 167, 3) := by decide +kernel
theorem d_P_need_18 : decode m_P_need.2.1 18 = .ok (.dup, 1) := by decide +kernel
theorem d_P_need_19 : decode m_P_need.2.1 19 = .ok (.invokespecial 169, 3) := by decide +kernel
theorem d_P_need_22 : decode m_P_need.2.1 22 = .ok (.athrow, 1) := by decide +kernel
theorem d_Slot_isProcedure_0 : decode m_Slot_isProcedure.2.1 0 = .ok (.aload_n 0, 1) := by decide +kernel
theorem d_Slot_isProcedure_1 : decode m_Slot_isProcedure.2.1 1 = .ok (.getfield 13, 3) := by decide +kernel
theorem d_Slot_isProcedure_4 : decode m_Slot_isProcedure.2.1 4 = .ok (.getstatic 51, 3) := by decide +kernel
theorem d_Slot_isProcedure_7 : decode m_Slot_isProcedure.2.1 7 = .ok (.if_acmp .ne 14, 3) := by decide +kernel
theorem d_Slot_isProcedure_10 : decode m_Slot_isProcedure.2.1 10 = .ok (.aload_n 0, 1) := by decide +kernel
theorem d_Slot_isProcedure_11 : decode m_Slot_isProcedure.2.1 11 = .ok (.getfield 25, 3) := by decide +kernel
theorem d_Slot_isProcedure_14 : decode m_Slot_isProcedure.2.1 14 = .ok (.ifCond .eq 7, 3) := by decide +kernel
theorem d_Slot_isProcedure_17 : decode m_Slot_isProcedure.2.1 17 = .ok (.iconst 1, 1) := by decide +kernel
theorem d_Slot_isProcedure_18 : decode m_Slot_isProcedure.2.1 18 = .ok (.goto 4, 3) := by decide +kernel
theorem d_Slot_isProcedure_21 : decode m_Slot_isProcedure.2.1 21 = .ok (.iconst 0, 1) := by decide +kernel
theorem d_Slot_isProcedure_22 : decode m_Slot_isProcedure.2.1 22 = .ok (.ireturn, 1) := by decide +kernel
theorem d_P_enter_0 : decode m_P_enter.2.1 0 = .ok (.aload_n 0, 1) := by decide +kernel
theorem d_P_enter_1 : decode m_P_enter.2.1 1 = .ok (.getfield 80, 3) := by decide +kernel
theorem d_P_enter_4 : decode m_P_enter.2.1 4 = .ok (.aload_n 0, 1) := by decide +kernel
theorem d_P_enter_5 : decode m_P_enter.2.1 5 = .ok (.getfield 291, 3) := by decide +kernel
theorem d_P_enter_8 : decode m_P_enter.2.1 8 = .ok (.iload_n 1, 1) := by decide +kernel
theorem d_P_enter_9 : decode m_P_enter.2.1 9 = .ok (.iastore, 1) := by decide +kernel
theorem d_P_enter_10 : decode m_P_enter.2.1 10 = .ok (.aload_n 0, 1) := by decide +kernel
theorem d_P_enter_11 : decode m_P_enter.2.1 11 = .ok (.getfield 84, 3) := by decide +kernel
theorem d_P_enter_14 : decode m_P_enter.2.1 14 = .ok (.aload_n 0, 1) := by decide +kernel
theorem d_P_enter_15 : decode m_P_enter.2.1 15 = .ok (.dup, 1) := by decide +kernel
theorem d_P_enter_16 : decode m_P_enter.2.1 16 = .ok (.getfield 291, 3) := by decide +kernel
theorem d_P_enter_19 : decode m_P_enter.2.1 19 = .ok (.dup_x1, 1) := by decide +kernel
theorem d_P_enter_20 : decode m_P_enter.2.1 20 = .ok (.iconst 1, 1) := by decide +kernel
theorem d_P_enter_21 : decode m_P_enter.2.1 21 = .ok (.iadd, 1) := by decide +kernel
theorem d_P_enter_22 : decode m_P_enter.2.1 22 = .ok (.putfield 291, 3) := by decide +kernel
theorem d_P_enter_25 : decode m_P_enter.2.1 25 = .ok (.iload_n 2, 1) := by decide +kernel
theorem d_P_enter_26 : decode m_P_enter.2.1 26 = .ok (.iastore, 1) := by decide +kernel
theorem d_P_enter_27 : decode m_P_enter.2.1 27 = .ok (.return_, 1) := by decide +kernel
theorem d_P_call_0 : decode m_P_call.2.1 0 = .ok (.aload_n 0, 1) := by decide +kernel
theorem d_P_call_1 : decode m_P_call.2.1 1 = .ok (.iload_n 3, 1) := by decide +kernel
theorem d_P_call_2 : decode m_P_call.2.1 2 = .ok (.bipush 8, 2) := by decide +kernel
theorem d_P_call_4 : decode m_P_call.2.1 4 = .ok (.if_icmp .gt 7, 3) := by decide +kernel
theorem d_P_call_7 : decode m_P_call.2.1 7 = .ok (.iconst 1, 1) := by decide +kernel
theorem d_P_call_8 : decode m_P_call.2.1 8 = .ok (.goto 4, 3) := by decide +kernel
theorem d_P_call_11 : decode m_P_call.2.1 11 = .ok (.iconst 0, 1) := by decide +kernel
theorem d_P_call_12 : decode m_P_call.2.1 12 = .ok (.bipush 12, 2) := by decide +kernel
theorem d_P_call_14 : decode m_P_call.2.1 14 = .ok (.invokevirtual 170, 3) := by decide +kernel
theorem d_P_call_17 : decode m_P_call.2.1 17 = .ok (.aload_n 0, 1) := by decide +kernel
theorem d_P_call_18 : decode m_P_call.2.1 18 = .ok (.iload_n 1, 1) := by decide +kernel
theorem d_P_call_19 : decode m_P_call.2.1 19 = .ok (.iload_n 2, 1) := by decide +kernel
theorem d_P_call_20 : decode m_P_call.2.1 20 = .ok (.invokevirtual 378, 3) := by decide +kernel
theorem d_P_call_23 : decode m_P_call.2.1 23 = .ok (.iconst 0, 1) := by decide +kernel
theorem d_P_call_24 : decode m_P_call.2.1 24 = .ok (.istore 4, 2) := by decide +kernel
theorem d_P_call_26 : decode m_P_call.2.1 26 = .ok (.iload 4, 2) := by decide +kernel
theorem d_P_call_28 : decode m_P_call.2.1 28 = .ok (.iload_n 2, 1) := by decide +kernel
theorem d_P_call_29 : decode m_P_call.2.1 29 = .ok (.if_icmp .ge 30, 3) := by decide +kernel
theorem d_P_call_32 : decode m_P_call.2.1 32 = .ok (.aload_n 0, 1) := by decide +kernel
theorem d_P_call_33 : decode m_P_call.2.1 33 = .ok (.getfield 381, 3) := by decide +kernel
theorem d_P_call_36 : decode m_P_call.2.1 36 = .ok (.ifCond .ne 23, 3) := by decide +kernel
theorem d_P_call_39 : decode m_P_call.2.1 39 = .ok (.aload_n 0, 1) := by decide +kernel
theorem d_P_call_40 : decode m_P_call.2.1 40 = .ok (.aload_n 0, 1) := by decide +kernel
theorem d_P_call_41 : decode m_P_call.2.1 41 = .ok (.getfield 57, 3) := by decide +kernel
theorem d_P_call_44 : decode m_P_call.2.1 44 = .ok (.iload_n 1, 1) := by decide +kernel
theorem d_P_call_45 : decode m_P_call.2.1 45 = .ok (.iload 4, 2) := by decide +kernel
theorem d_P_call_47 : decode m_P_call.2.1 47 = .ok (.iadd, 1) := by decide +kernel
theorem d_P_call_48 : decode m_P_call.2.1 48 = .ok (.aaload, 1) := by decide +kernel
theorem d_P_call_49 : decode m_P_call.2.1 49 = .ok (.iload_n 3, 1) := by decide +kernel
theorem d_P_call_50 : decode m_P_call.2.1 50 = .ok (.invokevirtual 364, 3) := by decide +kernel
theorem d_P_call_53 : decode m_P_call.2.1 53 = .ok (.iinc 4 1, 3) := by decide +kernel
theorem d_P_call_56 : decode m_P_call.2.1 56 = .ok (.goto (-30), 3) := by decide +kernel
theorem d_P_call_59 : decode m_P_call.2.1 59 = .ok (.aload_n 0, 1) := by decide +kernel
theorem d_P_call_60 : decode m_P_call.2.1 60 = .ok (.dup, 1) := by decide +kernel
theorem d_P_call_61 : decode m_P_call.2.1 61 = .ok (.getfield 291, 3) := by decide +kernel
theorem d_P_call_64 : decode m_P_call.2.1 64 = .ok (.iconst 1, 1) := by decide +kernel
theorem d_P_call_65 : decode m_P_call.2.1 65 = .ok (.isub, 1) := by decide +kernel
theorem d_P_call_66 : decode m_P_call.2.1 66 = .ok (.putfield 291, 3) := by decide +kernel
theorem d_P_call_69 : decode m_P_call.2.1 69 = .ok (.return_, 1) := by decide +kernel
theorem d_P_execute_0 : decode m_P_execute.2.1 0 = .ok (.aload_n 0, 1) := by decide +kernel
theorem d_P_execute_1 : decode m_P_execute.2.1 1 = .ok (.aload_n 1, 1) := by decide +kernel
theorem d_P_execute_2 : decode m_P_execute.2.1 2 = .ok (.getfield 327, 3) := by decide +kernel
theorem d_P_execute_5 : decode m_P_execute.2.1 5 = .ok (.ifCond .eq 9, 3) := by decide +kernel
theorem d_P_execute_8 : decode m_P_execute.2.1 8 = .ok (.iload_n 2, 1) := by decide +kernel
theorem d_P_execute_9 : decode m_P_execute.2.1 9 = .ok (.bipush 8, 2) := by decide +kernel
theorem d_P_execute_11 : decode m_P_execute.2.1 11 = .ok (.if_icmp .ge 7, 3) := by decide +kernel
theorem d_P_execute_14 : decode m_P_execute.2.1 14 = .ok (.iconst 1, 1) := by decide +kernel
theorem d_P_execute_15 : decode m_P_execute.2.1 15 = .ok (.goto 4, 3) := by decide +kernel
theorem d_P_execute_18 : decode m_P_execute.2.1 18 = .ok (.iconst 0, 1) := by decide +kernel
theorem d_P_execute_19 : decode m_P_execute.2.1 19 = .ok (.bipush 12, 2) := by decide +kernel
theorem d_P_execute_21 : decode m_P_execute.2.1 21 = .ok (.invokevirtual 170, 3) := by decide +kernel
theorem d_P_execute_24 : decode m_P_execute.2.1 24 = .ok (.aload_n 1, 1) := by decide +kernel
theorem d_P_execute_25 : decode m_P_execute.2.1 25 = .ok (.invokevirtual 351, 3) := by decide +kernel
theorem d_P_execute_28 : decode m_P_execute.2.1 28 = .ok (.ifCond .eq 21, 3) := by decide +kernel
theorem d_P_execute_31 : decode m_P_execute.2.1 31 = .ok (.aload_n 0, 1) := by decide +kernel
theorem d_P_execute_32 : decode m_P_execute.2.1 32 = .ok (.aload_n 1, 1) := by decide +kernel
theorem d_P_execute_33 : decode m_P_execute.2.1 33 = .ok (.getfield 355, 3) := by decide +kernel
theorem d_P_execute_36 : decode m_P_execute.2.1 36 = .ok (.aload_n 1, 1) := by decide +kernel
theorem d_P_execute_37 : decode m_P_execute.2.1 37 = .ok (.getfield 358, 3) := by decide +kernel
theorem d_P_execute_40 : decode m_P_execute.2.1 40 = .ok (.iload_n 2, 1) := by decide +kernel
theorem d_P_execute_41 : decode m_P_execute.2.1 41 = .ok (.iconst 1, 1) := by decide +kernel
theorem d_P_execute_42 : decode m_P_execute.2.1 42 = .ok (.iadd, 1) := by decide +kernel
theorem d_P_execute_43 : decode m_P_execute.2.1 43 = .ok (.invokevirtual 360, 3) := by decide +kernel
theorem d_P_execute_46 : decode m_P_execute.2.1 46 = .ok (.goto 22, 3) := by decide +kernel
theorem d_P_execute_49 : decode m_P_execute.2.1 49 = .ok (.aload_n 0, 1) := by decide +kernel
theorem d_P_execute_50 : decode m_P_execute.2.1 50 = .ok (.aload_n 1, 1) := by decide +kernel
theorem d_P_execute_51 : decode m_P_execute.2.1 51 = .ok (.aload_n 1, 1) := by decide +kernel
theorem d_P_execute_52 : decode m_P_execute.2.1 52 = .ok (.getfield 327, 3) := by decide +kernel
theorem d_P_execute_55 : decode m_P_execute.2.1 55 = .ok (.ifCond .eq 9, 3) := by decide +kernel
theorem d_P_execute_58 : decode m_P_execute.2.1 58 = .ok (.iload_n 2, 1) := by decide +kernel
theorem d_P_execute_59 : decode m_P_execute.2.1 59 = .ok (.iconst 1, 1) := by decide +kernel
theorem d_P_execute_60 : decode m_P_execute.2.1 60 = .ok (.iadd, 1) := by decide +kernel
theorem d_P_execute_61 : decode m_P_execute.2.1 61 = .ok (.goto 4, 3) := by decide +kernel
theorem d_P_execute_64 : decode m_P_execute.2.1 64 = .ok (.iload_n 2, 1) := by decide +kernel
theorem d_P_execute_65 : decode m_P_execute.2.1 65 = .ok (.invokevirtual 364, 3) := by decide +kernel
theorem d_P_execute_68 : decode m_P_execute.2.1 68 = .ok (.return_, 1) := by decide +kernel
theorem d_Slot_is_0 : decode m_Slot_is.2.1 0 = .ok (.aload_n 0, 1) := by decide +kernel
theorem d_Slot_is_1 : decode m_Slot_is.2.1 1 = .ok (.getfield 13, 3) := by decide +kernel
theorem d_Slot_is_4 : decode m_Slot_is.2.1 4 = .ok (.aload_n 1, 1) := by decide +kernel
theorem d_Slot_is_5 : decode m_Slot_is.2.1 5 = .ok (.if_acmp .ne 7, 3) := by decide +kernel
theorem d_Slot_is_8 : decode m_Slot_is.2.1 8 = .ok (.iconst 1, 1) := by decide +kernel
theorem d_Slot_is_9 : decode m_Slot_is.2.1 9 = .ok (.goto 4, 3) := by decide +kernel
theorem d_Slot_is_12 : decode m_Slot_is.2.1 12 = .ok (.iconst 0, 1) := by decide +kernel
theorem d_Slot_is_13 : decode m_Slot_is.2.1 13 = .ok (.ireturn, 1) := by decide +kernel
theorem d_P_type_0 : decode m_P_type.2.1 0 = .ok (.aload_n 0, 1) := by decide +kernel
theorem d_P_type_1 : decode m_P_type.2.1 1 = .ok (.iload_n 1, 1) := by decide +kernel
theorem d_P_type_2 : decode m_P_type.2.1 2 = .ok (.iconst 3, 1) := by decide +kernel
theorem d_P_type_3 : decode m_P_type.2.1 3 = .ok (.invokevirtual 170, 3) := by decide +kernel
theorem d_P_type_6 : decode m_P_type.2.1 6 = .ok (.return_, 1) := by decide +kernel
theorem d_P_at_0 : decode m_P_at.2.1 0 = .ok (.aload_n 0, 1) := by decide +kernel
theorem d_P_at_1 : decode m_P_at.2.1 1 = .ok (.getfield 53, 3) := by decide +kernel
theorem d_P_at_4 : decode m_P_at.2.1 4 = .ok (.aload_n 0, 1) := by decide +kernel
theorem d_P_at_5 : decode m_P_at.2.1 5 = .ok (.getfield 174, 3) := by decide +kernel
theorem d_P_at_8 : decode m_P_at.2.1 8 = .ok (.iconst 1, 1) := by decide +kernel
theorem d_P_at_9 : decode m_P_at.2.1 9 = .ok (.isub, 1) := by decide +kernel
theorem d_P_at_10 : decode m_P_at.2.1 10 = .ok (.iload_n 1, 1) := by decide +kernel
theorem d_P_at_11 : decode m_P_at.2.1 11 = .ok (.isub, 1) := by decide +kernel
theorem d_P_at_12 : decode m_P_at.2.1 12 = .ok (.aaload, 1) := by decide +kernel
theorem d_P_at_13 : decode m_P_at.2.1 13 = .ok (.areturn, 1) := by decide +kernel
theorem d_P_fails_0 : decode m_P_fails.2.1 0 = .ok (.aload_n 0, 1) := by decide +kernel
theorem d_P_fails_1 : decode m_P_fails.2.1 1 = .ok (.getfield 291, 3) := by decide +kernel
theorem d_P_fails_4 : decode m_P_fails.2.1 4 = .ok (.istore_n 3, 1) := by decide +kernel
theorem d_P_fails_5 : decode m_P_fails.2.1 5 = .ok (.aload_n 0, 1) := by decide +kernel
theorem d_P_fails_6 : decode m_P_fails.2.1 6 = .ok (.getfield 384, 3) := by decide +kernel
theorem d_P_fails_9 : decode m_P_fails.2.1 9 = .ok (.istore 4, 2) := by decide +kernel
theorem d_P_fails_11 : decode m_P_fails.2.1 11 = .ok (.aload_n 0, 1) := by decide +kernel
theorem d_P_fails_12 : decode m_P_fails.2.1 12 = .ok (.getfield 387, 3) := by decide +kernel
theorem d_P_fails_15 : decode m_P_fails.2.1 15 = .ok (.istore 5, 2) := by decide +kernel
theorem d_P_fails_17 : decode m_P_fails.2.1 17 = .ok (.aload_n 0, 1) := by decide +kernel
theorem d_P_fails_18 : decode m_P_fails.2.1 18 = .ok (.aload_n 0, 1) := by decide +kernel
theorem d_P_fails_19 : decode m_P_fails.2.1 19 = .ok (.getfield 384, 3) := by decide +kernel
theorem d_P_fails_22 : decode m_P_fails.2.1 22 = .ok (.putfield 387, 3) := by decide +kernel
theorem d_P_fails_25 : decode m_P_fails.2.1 25 = .ok (.iconst 0, 1) := by decide +kernel
theorem d_P_fails_26 : decode m_P_fails.2.1 26 = .ok (.istore 6, 2) := by decide +kernel
theorem d_P_fails_28 : decode m_P_fails.2.1 28 = .ok (.aload_n 0, 1) := by decide +kernel
theorem d_P_fails_29 : decode m_P_fails.2.1 29 = .ok (.aload_n 1, 1) := by decide +kernel
theorem d_P_fails_30 : decode m_P_fails.2.1 30 = .ok (.iload_n 2, 1) := by decide +kernel
theorem d_P_fails_31 : decode m_P_fails.2.1 31 = .ok (.invokevirtual 390, 3) := by decide +kernel
theorem d_P_fails_34 : decode m_P_fails.2.1 34 = .ok (.goto 8, 3) := by decide +kernel
theorem d_P_fails_37 : decode m_P_fails.2.1 37 = .ok (.astore 7, 2) := by decide +kernel
theorem d_P_fails_39 : decode m_P_fails.2.1 39 = .ok (.iconst 1, 1) := by decide +kernel
theorem d_P_fails_40 : decode m_P_fails.2.1 40 = .ok (.istore 6, 2) := by decide +kernel
theorem d_P_fails_42 : decode m_P_fails.2.1 42 = .ok (.aload_n 0, 1) := by decide +kernel
theorem d_P_fails_43 : decode m_P_fails.2.1 43 = .ok (.iload 6, 2) := by decide +kernel
theorem d_P_fails_45 : decode m_P_fails.2.1 45 = .ok (.ifCond .eq 12, 3) := by decide +kernel
theorem d_P_fails_48 : decode m_P_fails.2.1 48 = .ok (.aload_n 0, 1) := by decide +kernel
theorem d_P_fails_49 : decode m_P_fails.2.1 49 = .ok (.getfield 161, 3) := by decide +kernel
theorem d_P_fails_52 : decode m_P_fails.2.1 52 = .ok (.bipush 16, 2) := by decide +kernel
theorem d_P_fails_54 : decode m_P_fails.2.1 54 = .ok (.if_icmp .eq 7, 3) := by decide +kernel
theorem d_P_fails_57 : decode m_P_fails.2.1 57 = .ok (.iconst 1, 1) := by decide +kernel
theorem d_P_fails_58 : decode m_P_fails.2.1 58 = .ok (.goto 4, 3) := by decide +kernel
theorem d_P_fails_61 : decode m_P_fails.2.1 61 = .ok (.iconst 0, 1) := by decide +kernel
theorem d_P_fails_62 : decode m_P_fails.2.1 62 = .ok (.bipush 16, 2) := by decide +kernel
theorem d_P_fails_64 : decode m_P_fails.2.1 64 = .ok (.invokevirtual 170, 3) := by decide +kernel
theorem d_P_fails_67 : decode m_P_fails.2.1 67 = .ok (.aload_n 0, 1) := by decide +kernel
theorem d_P_fails_68 : decode m_P_fails.2.1 68 = .ok (.iload_n 3, 1) := by decide +kernel
theorem d_P_fails_69 : decode m_P_fails.2.1 69 = .ok (.putfield 291, 3) := by decide +kernel
theorem d_P_fails_72 : decode m_P_fails.2.1 72 = .ok (.aload_n 0, 1) := by decide +kernel
theorem d_P_fails_73 : decode m_P_fails.2.1 73 = .ok (.iload 4, 2) := by decide +kernel
theorem d_P_fails_75 : decode m_P_fails.2.1 75 = .ok (.putfield 384, 3) := by decide +kernel
theorem d_P_fails_78 : decode m_P_fails.2.1 78 = .ok (.aload_n 0, 1) := by decide +kernel
theorem d_P_fails_79 : decode m_P_fails.2.1 79 = .ok (.iload 5, 2) := by decide +kernel
theorem d_P_fails_81 : decode m_P_fails.2.1 81 = .ok (.putfield 387, 3) := by decide +kernel
theorem d_P_fails_84 : decode m_P_fails.2.1 84 = .ok (.aload_n 0, 1) := by decide +kernel
theorem d_P_fails_85 : decode m_P_fails.2.1 85 = .ok (.iconst 0, 1) := by decide +kernel
theorem d_P_fails_86 : decode m_P_fails.2.1 86 = .ok (.putfield 381, 3) := by decide +kernel
theorem d_P_fails_89 : decode m_P_fails.2.1 89 = .ok (.iload 6, 2) := by decide +kernel
theorem d_P_fails_91 : decode m_P_fails.2.1 91 = .ok (.ireturn, 1) := by decide +kernel
theorem d_P_place_0 : decode m_P_place.2.1 0 = .ok (.aload_n 0, 1) := by decide +kernel
theorem d_P_place_1 : decode m_P_place.2.1 1 = .ok (.aload_n 0, 1) := by decide +kernel
theorem d_P_place_2 : decode m_P_place.2.1 2 = .ok (.getfield 174, 3) := by decide +kernel
theorem d_P_place_5 : decode m_P_place.2.1 5 = .ok (.iload_n 1, 1) := by decide +kernel
theorem d_P_place_6 : decode m_P_place.2.1 6 = .ok (.isub, 1) := by decide +kernel
theorem d_P_place_7 : decode m_P_place.2.1 7 = .ok (.bipush 40, 2) := by decide +kernel
theorem d_P_place_9 : decode m_P_place.2.1 9 = .ok (.if_icmp .ge 7, 3) := by decide +kernel
theorem d_P_place_12 : decode m_P_place.2.1 12 = .ok (.iconst 1, 1) := by decide +kernel
theorem d_P_place_13 : decode m_P_place.2.1 13 = .ok (.goto 4, 3) := by decide +kernel
theorem d_P_place_16 : decode m_P_place.2.1 16 = .ok (.iconst 0, 1) := by decide +kernel
theorem d_P_place_17 : decode m_P_place.2.1 17 = .ok (.iconst 2, 1) := by decide +kernel
theorem d_P_place_18 : decode m_P_place.2.1 18 = .ok (.invokevirtual 170, 3) := by decide +kernel
theorem d_P_place_21 : decode m_P_place.2.1 21 = .ok (.aload_n 0, 1) := by decide +kernel
theorem d_P_place_22 : decode m_P_place.2.1 22 = .ok (.dup, 1) := by decide +kernel
theorem d_P_place_23 : decode m_P_place.2.1 23 = .ok (.getfield 174, 3) := by decide +kernel
theorem d_P_place_26 : decode m_P_place.2.1 26 = .ok (.iload_n 1, 1) := by decide +kernel
theorem d_P_place_27 : decode m_P_place.2.1 27 = .ok (.isub, 1) := by decide +kernel
theorem d_P_place_28 : decode m_P_place.2.1 28 = .ok (.putfield 174, 3) := by decide +kernel
theorem d_P_place_31 : decode m_P_place.2.1 31 = .ok (.aload_n 0, 1) := by decide +kernel
theorem d_P_place_32 : decode m_P_place.2.1 32 = .ok (.getfield 53, 3) := by decide +kernel
theorem d_P_place_35 : decode m_P_place.2.1 35 = .ok (.aload_n 0, 1) := by decide +kernel
theorem d_P_place_36 : decode m_P_place.2.1 36 = .ok (.getfield 174, 3) := by decide +kernel
theorem d_P_place_39 : decode m_P_place.2.1 39 = .ok (.aaload, 1) := by decide +kernel
theorem d_P_place_40 : decode m_P_place.2.1 40 = .ok (.ifnonnull 19, 3) := by decide +kernel
theorem d_P_place_43 : decode m_P_place.2.1 43 = .ok (.aload_n 0, 1) := by decide +kernel
theorem d_P_place_44 : decode m_P_place.2.1 44 = .ok (.getfield 53, 3) := by decide +kernel
theorem d_P_place_47 : decode m_P_place.2.1 47 = .ok (.aload_n 0, 1) := by decide +kernel
theorem d_P_place_48 : decode m_P_place.2.1 48 = .ok (.getfield 174, 3) := by decide +kernel
theorem d_P_place_51 : decode m_P_place.2.1 51 = .ok (.new 51, 3) := by decide +kernel
theorem d_P_place_54 : decode m_P_place.2.1 54 = .ok (.dup, 1) := by decide +kernel
theorem d_P_place_55 : decode m_P_place.2.1 55 = .ok (.invokespecial 177, 3) := by decide +kernel
theorem d_P_place_58 : decode m_P_place.2.1 58 = .ok (.aastore, 1) := by decide +kernel
theorem d_P_place_59 : decode m_P_place.2.1 59 = .ok (.aload_n 0, 1) := by decide +kernel
theorem d_P_place_60 : decode m_P_place.2.1 60 = .ok (.dup, 1) := by decide +kernel
theorem d_P_place_61 : decode m_P_place.2.1 61 = .ok (.getfield 174, 3) := by decide +kernel
theorem d_P_place_64 : decode m_P_place.2.1 64 = .ok (.iconst 1, 1) := by decide +kernel
theorem d_P_place_65 : decode m_P_place.2.1 65 = .ok (.iadd, 1) := by decide +kernel
theorem d_P_place_66 : decode m_P_place.2.1 66 = .ok (.putfield 174, 3) := by decide +kernel
theorem d_P_place_69 : decode m_P_place.2.1 69 = .ok (.aload_n 0, 1) := by decide +kernel
theorem d_P_place_70 : decode m_P_place.2.1 70 = .ok (.getfield 53, 3) := by decide +kernel
theorem d_P_place_73 : decode m_P_place.2.1 73 = .ok (.aload_n 0, 1) := by decide +kernel
theorem d_P_place_74 : decode m_P_place.2.1 74 = .ok (.getfield 174, 3) := by decide +kernel
theorem d_P_place_77 : decode m_P_place.2.1 77 = .ok (.iconst 1, 1) := by decide +kernel
theorem d_P_place_78 : decode m_P_place.2.1 78 = .ok (.isub, 1) := by decide +kernel
theorem d_P_place_79 : decode m_P_place.2.1 79 = .ok (.aaload, 1) := by decide +kernel
theorem d_P_place_80 : decode m_P_place.2.1 80 = .ok (.areturn, 1) := by decide +kernel
theorem d_Slot_set_0 : decode m_Slot_set.2.1 0 = .ok (.aload_n 0, 1) := by decide +kernel
theorem d_Slot_set_1 : decode m_Slot_set.2.1 1 = .ok (.aload_n 1, 1) := by decide +kernel
theorem d_Slot_set_2 : decode m_Slot_set.2.1 2 = .ok (.putfield 13, 3) := by decide +kernel
theorem d_Slot_set_5 : decode m_Slot_set.2.1 5 = .ok (.aload_n 0, 1) := by decide +kernel
theorem d_Slot_set_6 : decode m_Slot_set.2.1 6 = .ok (.iload_n 2, 1) := by decide +kernel
theorem d_Slot_set_7 : decode m_Slot_set.2.1 7 = .ok (.putfield 18, 3) := by decide +kernel
theorem d_Slot_set_10 : decode m_Slot_set.2.1 10 = .ok (.aload_n 0, 1) := by decide +kernel
theorem d_Slot_set_11 : decode m_Slot_set.2.1 11 = .ok (.iload_n 3, 1) := by decide +kernel
theorem d_Slot_set_12 : decode m_Slot_set.2.1 12 = .ok (.putfield 22, 3) := by decide +kernel
theorem d_Slot_set_15 : decode m_Slot_set.2.1 15 = .ok (.aload_n 0, 1) := by decide +kernel
theorem d_Slot_set_16 : decode m_Slot_set.2.1 16 = .ok (.iload 4, 2) := by decide +kernel
theorem d_Slot_set_18 : decode m_Slot_set.2.1 18 = .ok (.putfield 25, 3) := by decide +kernel
theorem d_Slot_set_21 : decode m_Slot_set.2.1 21 = .ok (.return_, 1) := by decide +kernel
theorem d_P_give_0 : decode m_P_give.2.1 0 = .ok (.aload_n 0, 1) := by decide +kernel
theorem d_P_give_1 : decode m_P_give.2.1 1 = .ok (.iload_n 1, 1) := by decide +kernel
theorem d_P_give_2 : decode m_P_give.2.1 2 = .ok (.invokevirtual 178, 3) := by decide +kernel
theorem d_P_give_5 : decode m_P_give.2.1 5 = .ok (.aload_n 2, 1) := by decide +kernel
theorem d_P_give_6 : decode m_P_give.2.1 6 = .ok (.iload_n 3, 1) := by decide +kernel
theorem d_P_give_7 : decode m_P_give.2.1 7 = .ok (.iconst 0, 1) := by decide +kernel
theorem d_P_give_8 : decode m_P_give.2.1 8 = .ok (.iconst 0, 1) := by decide +kernel
theorem d_P_give_9 : decode m_P_give.2.1 9 = .ok (.invokevirtual 186, 3) := by decide +kernel
theorem d_P_give_12 : decode m_P_give.2.1 12 = .ok (.return_, 1) := by decide +kernel
theorem d_P_truth_0 : decode m_P_truth.2.1 0 = .ok (.aload_n 0, 1) := by decide +kernel
theorem d_P_truth_1 : decode m_P_truth.2.1 1 = .ok (.iload_n 1, 1) := by decide +kernel
theorem d_P_truth_2 : decode m_P_truth.2.1 2 = .ok (.getstatic 210, 3) := by decide +kernel
theorem d_P_truth_5 : decode m_P_truth.2.1 5 = .ok (.iload_n 2, 1) := by decide +kernel
theorem d_P_truth_6 : decode m_P_truth.2.1 6 = .ok (.ifCond .eq 7, 3) := by decide +kernel
theorem d_P_truth_9 : decode m_P_truth.2.1 9 = .ok (.iconst 1, 1) := by decide +kernel
theorem d_P_truth_10 : decode m_P_truth.2.1 10 = .ok (.goto 4, 3) := by decide +kernel
theorem d_P_truth_13 : decode m_P_truth.2.1 13 = .ok (.iconst 0, 1) := by decide +kernel
theorem d_P_truth_14 : decode m_P_truth.2.1 14 = .ok (.invokevirtual 199, 3) := by decide +kernel
theorem d_P_truth_17 : decode m_P_truth.2.1 17 = .ok (.return_, 1) := by decide +kernel
theorem d_Save_init_0 : decode m_Save_init.2.1 0 = .ok (.aload_n 0, 1) := by decide +kernel
theorem d_Save_init_1 : decode m_Save_init.2.1 1 = .ok (.invokespecial 1, 3) := by decide +kernel
theorem d_Save_init_4 : decode m_Save_init.2.1 4 = .ok (.aload_n 0, 1) := by decide +kernel
theorem d_Save_init_5 : decode m_Save_init.2.1 5 = .ok (.iload_n 1, 1) := by decide +kernel
theorem d_Save_init_6 : decode m_Save_init.2.1 6 = .ok (.putfield 7, 3) := by decide +kernel
theorem d_Save_init_9 : decode m_Save_init.2.1 9 = .ok (.aload_n 0, 1) := by decide +kernel
theorem d_Save_init_10 : decode m_Save_init.2.1 10 = .ok (.iload_n 2, 1) := by decide +kernel
theorem d_Save_init_11 : decode m_Save_init.2.1 11 = .ok (.putfield 13, 3) := by decide +kernel
theorem d_Save_init_14 : decode m_Save_init.2.1 14 = .ok (.aload_n 0, 1) := by decide +kernel
theorem d_Save_init_15 : decode m_Save_init.2.1 15 = .ok (.iload_n 3, 1) := by decide +kernel
theorem d_Save_init_16 : decode m_Save_init.2.1 16 = .ok (.putfield 16, 3) := by decide +kernel
theorem d_Save_init_19 : decode m_Save_init.2.1 19 = .ok (.aload_n 0, 1) := by decide +kernel
theorem d_Save_init_20 : decode m_Save_init.2.1 20 = .ok (.aload 4, 2) := by decide +kernel
theorem d_Save_init_22 : decode m_Save_init.2.1 22 = .ok (.putfield 19, 3) := by decide +kernel
theorem d_Save_init_25 : decode m_Save_init.2.1 25 = .ok (.return_, 1) := by decide +kernel
theorem d_P_save_0 : decode m_P_save.2.1 0 = .ok (.aload_n 0, 1) := by decide +kernel
theorem d_P_save_1 : decode m_P_save.2.1 1 = .ok (.aload_n 0, 1) := by decide +kernel
theorem d_P_save_2 : decode m_P_save.2.1 2 = .ok (.getfield 234, 3) := by decide +kernel
theorem d_P_save_5 : decode m_P_save.2.1 5 = .ok (.iconst 3, 1) := by decide +kernel
theorem d_P_save_6 : decode m_P_save.2.1 6 = .ok (.if_icmp .ge 7, 3) := by decide +kernel
theorem d_P_save_9 : decode m_P_save.2.1 9 = .ok (.iconst 1, 1) := by decide +kernel
theorem d_P_save_10 : decode m_P_save.2.1 10 = .ok (.goto 4, 3) := by decide +kernel
theorem d_P_save_13 : decode m_P_save.2.1 13 = .ok (.iconst 0, 1) := by decide +kernel
theorem d_P_save_14 : decode m_P_save.2.1 14 = .ok (.bipush 7, 2) := by decide +kernel
theorem d_P_save_16 : decode m_P_save.2.1 16 = .ok (.invokevirtual 170, 3) := by decide +kernel
theorem d_P_save_19 : decode m_P_save.2.1 19 = .ok (.aload_n 0, 1) := by decide +kernel
theorem d_P_save_20 : decode m_P_save.2.1 20 = .ok (.iconst 0, 1) := by decide +kernel
theorem d_P_save_21 : decode m_P_save.2.1 21 = .ok (.getstatic 270, 3) := by decide +kernel
theorem d_P_save_24 : decode m_P_save.2.1 24 = .ok (.aload_n 0, 1) := by decide +kernel
theorem d_P_save_25 : decode m_P_save.2.1 25 = .ok (.getfield 273, 3) := by decide +kernel
theorem d_P_save_28 : decode m_P_save.2.1 28 = .ok (.iconst 1, 1) := by decide +kernel
theorem d_P_save_29 : decode m_P_save.2.1 29 = .ok (.iadd, 1) := by decide +kernel
theorem d_P_save_30 : decode m_P_save.2.1 30 = .ok (.invokevirtual 199, 3) := by decide +kernel
theorem d_P_save_33 : decode m_P_save.2.1 33 = .ok (.aload_n 0, 1) := by decide +kernel
theorem d_P_save_34 : decode m_P_save.2.1 34 = .ok (.dup, 1) := by decide +kernel
theorem d_P_save_35 : decode m_P_save.2.1 35 = .ok (.getfield 273, 3) := by decide +kernel
theorem d_P_save_38 : decode m_P_save.2.1 38 = .ok (.iconst 1, 1) := by decide +kernel
theorem d_P_save_39 : decode m_P_save.2.1 39 = .ok (.iadd, 1) := by decide +kernel
theorem d_P_save_40 : decode m_P_save.2.1 40 = .ok (.putfield 273, 3) := by decide +kernel
theorem d_P_save_43 : decode m_P_save.2.1 43 = .ok (.aload_n 0, 1) := by decide +kernel
theorem d_P_save_44 : decode m_P_save.2.1 44 = .ok (.getfield 89, 3) := by decide +kernel
theorem d_P_save_47 : decode m_P_save.2.1 47 = .ok (.aload_n 0, 1) := by decide +kernel
theorem d_P_save_48 : decode m_P_save.2.1 48 = .ok (.dup, 1) := by decide +kernel
theorem d_P_save_49 : decode m_P_save.2.1 49 = .ok (.getfield 234, 3) := by decide +kernel
theorem d_P_save_52 : decode m_P_save.2.1 52 = .ok (.dup_x1, 1) := by decide +kernel
theorem d_P_save_53 : decode m_P_save.2.1 53 = .ok (.iconst 1, 1) := by decide +kernel
theorem d_P_save_54 : decode m_P_save.2.1 54 = .ok (.iadd, 1) := by decide +kernel
theorem d_P_save_55 : decode m_P_save.2.1 55 = .ok (.putfield 234, 3) := by decide +kernel
theorem d_P_save_58 : decode m_P_save.2.1 58 = .ok (.new 87, 3) := by decide +kernel
theorem d_P_save_61 : decode m_P_save.2.1 61 = .ok (.dup, 1) := by decide +kernel
theorem d_P_save_62 : decode m_P_save.2.1 62 = .ok (.aload_n 0, 1) := by decide +kernel
theorem d_P_save_63 : decode m_P_save.2.1 63 = .ok (.getfield 273, 3) := by decide +kernel
theorem d_P_save_66 : decode m_P_save.2.1 66 = .ok (.aload_n 0, 1) := by decide +kernel
theorem d_P_save_67 : decode m_P_save.2.1 67 = .ok (.getfield 231, 3) := by decide +kernel
theorem d_P_save_70 : decode m_P_save.2.1 70 = .ok (.aload_n 0, 1) := by decide +kernel
theorem d_P_save_71 : decode m_P_save.2.1 71 = .ok (.getfield 66, 3) := by decide +kernel
theorem d_P_save_74 : decode m_P_save.2.1 74 = .ok (.invokevirtual 276, 3) := by decide +kernel
theorem d_P_save_77 : decode m_P_save.2.1 77 = .ok (.aload_n 0, 1) := by decide +kernel
theorem d_P_save_78 : decode m_P_save.2.1 78 = .ok (.getfield 242, 3) := by decide +kernel
theorem d_P_save_81 : decode m_P_save.2.1 81 = .ok (.invokespecial 279, 3) := by decide +kernel
theorem d_P_save_84 : decode m_P_save.2.1 84 = .ok (.aastore, 1) := by decide +kernel
theorem d_P_save_85 : decode m_P_save.2.1 85 = .ok (.return_, 1) := by decide +kernel
theorem d_Save_serial_0 : decode m_Save_serial.2.1 0 = .ok (.aload_n 0, 1) := by decide +kernel
theorem d_Save_serial_1 : decode m_Save_serial.2.1 1 = .ok (.getfield 7, 3) := by decide +kernel
theorem d_Save_serial_4 : decode m_Save_serial.2.1 4 = .ok (.ireturn, 1) := by decide +kernel
theorem d_Save_isBefore_0 : decode m_Save_isBefore.2.1 0 = .ok (.aload_n 1, 1) := by decide +kernel
theorem d_Save_isBefore_1 : decode m_Save_isBefore.2.1 1 = .ok (.getstatic 23, 3) := by decide +kernel
theorem d_Save_isBefore_4 : decode m_Save_isBefore.2.1 4 = .ok (.invokevirtual 29, 3) := by decide +kernel
theorem d_Save_isBefore_7 : decode m_Save_isBefore.2.1 7 = .ok (.ifCond .eq 29, 3) := by decide +kernel
theorem d_Save_isBefore_10 : decode m_Save_isBefore.2.1 10 = .ok (.aload_n 1, 1) := by decide +kernel
theorem d_Save_isBefore_11 : decode m_Save_isBefore.2.1 11 = .ok (.getfield 35, 3) := by decide +kernel
theorem d_Save_isBefore_14 : decode m_Save_isBefore.2.1 14 = .ok (.ifCond .le 18, 3) := by decide +kernel
theorem d_Save_isBefore_17 : decode m_Save_isBefore.2.1 17 = .ok (.aload_n 1, 1) := by decide +kernel
theorem d_Save_isBefore_18 : decode m_Save_isBefore.2.1 18 = .ok (.getfield 38, 3) := by decide +kernel
theorem d_Save_isBefore_21 : decode m_Save_isBefore.2.1 21 = .ok (.aload_n 0, 1) := by decide +kernel
theorem d_Save_isBefore_22 : decode m_Save_isBefore.2.1 22 = .ok (.getfield 13, 3) := by decide +kernel
theorem d_Save_isBefore_25 : decode m_Save_isBefore.2.1 25 = .ok (.if_icmp .lt 7, 3) := by decide +kernel
theorem d_Save_isBefore_28 : decode m_Save_isBefore.2.1 28 = .ok (.iconst 1, 1) := by decide +kernel
theorem d_Save_isBefore_29 : decode m_Save_isBefore.2.1 29 = .ok (.goto 62, 3) := by decide +kernel
theorem d_Save_isBefore_32 : decode m_Save_isBefore.2.1 32 = .ok (.iconst 0, 1) := by decide +kernel
theorem d_Save_isBefore_33 : decode m_Save_isBefore.2.1 33 = .ok (.goto 58, 3) := by decide +kernel
theorem d_Save_isBefore_36 : decode m_Save_isBefore.2.1 36 = .ok (.aload_n 1, 1) := by decide +kernel
theorem d_Save_isBefore_37 : decode m_Save_isBefore.2.1 37 = .ok (.getstatic 41, 3) := by decide +kernel
theorem d_Save_isBefore_40 : decode m_Save_isBefore.2.1 40 = .ok (.invokevirtual 29, 3) := by decide +kernel
theorem d_Save_isBefore_43 : decode m_Save_isBefore.2.1 43 = .ok (.ifCond .eq 22, 3) := by decide +kernel
theorem d_Save_isBefore_46 : decode m_Save_isBefore.2.1 46 = .ok (.aload_n 1, 1) := by decide +kernel
theorem d_Save_isBefore_47 : decode m_Save_isBefore.2.1 47 = .ok (.getfield 38, 3) := by decide +kernel
theorem d_Save_isBefore_50 : decode m_Save_isBefore.2.1 50 = .ok (.aload_n 0, 1) := by decide +kernel
theorem d_Save_isBefore_51 : decode m_Save_isBefore.2.1 51 = .ok (.getfield 16, 3) := by decide +kernel
theorem d_Save_isBefore_54 : decode m_Save_isBefore.2.1 54 = .ok (.if_icmp .lt 7, 3) := by decide +kernel
theorem d_Save_isBefore_57 : decode m_Save_isBefore.2.1 57 = .ok (.iconst 1, 1) := by decide +kernel
theorem d_Save_isBefore_58 : decode m_Save_isBefore.2.1 58 = .ok (.goto 33, 3) := by decide +kernel
theorem d_Save_isBefore_61 : decode m_Save_isBefore.2.1 61 = .ok (.iconst 0, 1) := by decide +kernel
theorem d_Save_isBefore_62 : decode m_Save_isBefore.2.1 62 = .ok (.goto 29, 3) := by decide +kernel
theorem d_Save_isBefore_65 : decode m_Save_isBefore.2.1 65 = .ok (.aload_n 1, 1) := by decide +kernel
theorem d_Save_isBefore_66 : decode m_Save_isBefore.2.1 66 = .ok (.getstatic 44, 3) := by decide +kernel
theorem d_Save_isBefore_69 : decode m_Save_isBefore.2.1 69 = .ok (.invokevirtual 29, 3) := by decide +kernel
theorem d_Save_isBefore_72 : decode m_Save_isBefore.2.1 72 = .ok (.ifCond .eq 18, 3) := by decide +kernel
theorem d_Save_isBefore_75 : decode m_Save_isBefore.2.1 75 = .ok (.aload_n 1, 1) := by decide +kernel
theorem d_Save_isBefore_76 : decode m_Save_isBefore.2.1 76 = .ok (.getfield 38, 3) := by decide +kernel
theorem d_Save_isBefore_79 : decode m_Save_isBefore.2.1 79 = .ok (.aload_n 0, 1) := by decide +kernel
theorem d_Save_isBefore_80 : decode m_Save_isBefore.2.1 80 = .ok (.getfield 7, 3) := by decide +kernel
theorem d_Save_isBefore_83 : decode m_Save_isBefore.2.1 83 = .ok (.if_icmp .le 7, 3) := by decide +kernel
theorem d_Save_isBefore_86 : decode m_Save_isBefore.2.1 86 = .ok (.iconst 1, 1) := by decide +kernel
theorem d_Save_isBefore_87 : decode m_Save_isBefore.2.1 87 = .ok (.goto 4, 3) := by decide +kernel
theorem d_Save_isBefore_90 : decode m_Save_isBefore.2.1 90 = .ok (.iconst 0, 1) := by decide +kernel
theorem d_Save_isBefore_91 : decode m_Save_isBefore.2.1 91 = .ok (.ireturn, 1) := by decide +kernel
theorem d_Save_dicts_0 : decode m_Save_dicts.2.1 0 = .ok (.aload_n 0, 1) := by decide +kernel
theorem d_Save_dicts_1 : decode m_Save_dicts.2.1 1 = .ok (.getfield 16, 3) := by decide +kernel
theorem d_Save_dicts_4 : decode m_Save_dicts.2.1 4 = .ok (.ireturn, 1) := by decide +kernel
theorem d_Save_cells_0 : decode m_Save_cells.2.1 0 = .ok (.aload_n 0, 1) := by decide +kernel
theorem d_Save_cells_1 : decode m_Save_cells.2.1 1 = .ok (.getfield 13, 3) := by decide +kernel
theorem d_Save_cells_4 : decode m_Save_cells.2.1 4 = .ok (.ireturn, 1) := by decide +kernel
theorem d_Save_mark_0 : decode m_Save_mark.2.1 0 = .ok (.aload_n 0, 1) := by decide +kernel
theorem d_Save_mark_1 : decode m_Save_mark.2.1 1 = .ok (.getfield 19, 3) := by decide +kernel
theorem d_Save_mark_4 : decode m_Save_mark.2.1 4 = .ok (.areturn, 1) := by decide +kernel
theorem d_Slot_copy_0 : decode m_Slot_copy.2.1 0 = .ok (.aload_n 0, 1) := by decide +kernel
theorem d_Slot_copy_1 : decode m_Slot_copy.2.1 1 = .ok (.aload_n 1, 1) := by decide +kernel
theorem d_Slot_copy_2 : decode m_Slot_copy.2.1 2 = .ok (.getfield 13, 3) := by decide +kernel
theorem d_Slot_copy_5 : decode m_Slot_copy.2.1 5 = .ok (.aload_n 1, 1) := by decide +kernel
theorem d_Slot_copy_6 : decode m_Slot_copy.2.1 6 = .ok (.getfield 18, 3) := by decide +kernel
theorem d_Slot_copy_9 : decode m_Slot_copy.2.1 9 = .ok (.aload_n 1, 1) := by decide +kernel
theorem d_Slot_copy_10 : decode m_Slot_copy.2.1 10 = .ok (.getfield 22, 3) := by decide +kernel
theorem d_Slot_copy_13 : decode m_Slot_copy.2.1 13 = .ok (.aload_n 1, 1) := by decide +kernel
theorem d_Slot_copy_14 : decode m_Slot_copy.2.1 14 = .ok (.getfield 25, 3) := by decide +kernel
theorem d_Slot_copy_17 : decode m_Slot_copy.2.1 17 = .ok (.invokevirtual 32, 3) := by decide +kernel
theorem d_Slot_copy_20 : decode m_Slot_copy.2.1 20 = .ok (.aload_n 0, 1) := by decide +kernel
theorem d_Slot_copy_21 : decode m_Slot_copy.2.1 21 = .ok (.aload_n 1, 1) := by decide +kernel
theorem d_Slot_copy_22 : decode m_Slot_copy.2.1 22 = .ok (.getfield 36, 3) := by decide +kernel
theorem d_Slot_copy_25 : decode m_Slot_copy.2.1 25 = .ok (.putfield 36, 3) := by decide +kernel
theorem d_Slot_copy_28 : decode m_Slot_copy.2.1 28 = .ok (.aload_n 0, 1) := by decide +kernel
theorem d_Slot_copy_29 : decode m_Slot_copy.2.1 29 = .ok (.aload_n 1, 1) := by decide +kernel
theorem d_Slot_copy_30 : decode m_Slot_copy.2.1 30 = .ok (.getfield 43, 3) := by decide +kernel
theorem d_Slot_copy_33 : decode m_Slot_copy.2.1 33 = .ok (.putfield 43, 3) := by decide +kernel
theorem d_Slot_copy_36 : decode m_Slot_copy.2.1 36 = .ok (.aload_n 0, 1) := by decide +kernel
theorem d_Slot_copy_37 : decode m_Slot_copy.2.1 37 = .ok (.aload_n 1, 1) := by decide +kernel
theorem d_Slot_copy_38 : decode m_Slot_copy.2.1 38 = .ok (.getfield 47, 3) := by decide +kernel
theorem d_Slot_copy_41 : decode m_Slot_copy.2.1 41 = .ok (.putfield 47, 3) := by decide +kernel
theorem d_Slot_copy_44 : decode m_Slot_copy.2.1 44 = .ok (.return_, 1) := by decide +kernel
theorem d_Rewritten_undo_0 : decode m_Rewritten_undo.2.1 0 = .ok (.aload_n 0, 1) := by decide +kernel
theorem d_Rewritten_undo_1 : decode m_Rewritten_undo.2.1 1 = .ok (.getfield 13, 3) := by decide +kernel
theorem d_Rewritten_undo_4 : decode m_Rewritten_undo.2.1 4 = .ok (.aload_n 0, 1) := by decide +kernel
theorem d_Rewritten_undo_5 : decode m_Rewritten_undo.2.1 5 = .ok (.getfield 17, 3) := by decide +kernel
theorem d_Rewritten_undo_8 : decode m_Rewritten_undo.2.1 8 = .ok (.invokevirtual 24, 3) := by decide +kernel
theorem d_Rewritten_undo_11 : decode m_Rewritten_undo.2.1 11 = .ok (.aload_n 0, 1) := by decide +kernel
theorem d_Rewritten_undo_12 : decode m_Rewritten_undo.2.1 12 = .ok (.getfield 13, 3) := by decide +kernel
theorem d_Rewritten_undo_15 : decode m_Rewritten_undo.2.1 15 = .ok (.aload_n 0, 1) := by decide +kernel
theorem d_Rewritten_undo_16 : decode m_Rewritten_undo.2.1 16 = .ok (.getfield 20, 3) := by decide +kernel
theorem d_Rewritten_undo_19 : decode m_Rewritten_undo.2.1 19 = .ok (.putfield 30, 3) := by decide +kernel
theorem d_Rewritten_undo_22 : decode m_Rewritten_undo.2.1 22 = .ok (.return_, 1) := by decide +kernel
theorem d_Rewritten_before_0 : decode m_Rewritten_before.2.1 0 = .ok (.aload_n 0, 1) := by decide +kernel
theorem d_Rewritten_before_1 : decode m_Rewritten_before.2.1 1 = .ok (.getfield 7, 3) := by decide +kernel
theorem d_Rewritten_before_4 : decode m_Rewritten_before.2.1 4 = .ok (.areturn, 1) := by decide +kernel
theorem d_P_restore_0 : decode m_P_restore.2.1 0 = .ok (.aload_n 0, 1) := by decide +kernel
theorem d_P_restore_1 : decode m_P_restore.2.1 1 = .ok (.getfield 234, 3) := by decide +kernel
theorem d_P_restore_4 : decode m_P_restore.2.1 4 = .ok (.iconst 1, 1) := by decide +kernel
theorem d_P_restore_5 : decode m_P_restore.2.1 5 = .ok (.isub, 1) := by decide +kernel
theorem d_P_restore_6 : decode m_P_restore.2.1 6 = .ok (.istore_n 2, 1) := by decide +kernel
theorem d_P_restore_7 : decode m_P_restore.2.1 7 = .ok (.iload_n 2, 1) := by decide +kernel
theorem d_P_restore_8 : decode m_P_restore.2.1 8 = .ok (.ifCond .lt 22, 3) := by decide +kernel
theorem d_P_restore_11 : decode m_P_restore.2.1 11 = .ok (.aload_n 0, 1) := by decide +kernel
theorem d_P_restore_12 : decode m_P_restore.2.1 12 = .ok (.getfield 89, 3) := by decide +kernel
theorem d_P_restore_15 : decode m_P_restore.2.1 15 = .ok (.iload_n 2, 1) := by decide +kernel
theorem d_P_restore_16 : decode m_P_restore.2.1 16 = .ok (.aaload, 1) := by decide +kernel
theorem d_P_restore_17 : decode m_P_restore.2.1 17 = .ok (.invokevirtual 282, 3) := by decide +kernel
theorem d_P_restore_20 : decode m_P_restore.2.1 20 = .ok (.iload_n 1, 1) := by decide +kernel
theorem d_P_restore_21 : decode m_P_restore.2.1 21 = .ok (.if_icmp .eq 9, 3) := by decide +kernel
theorem d_P_restore_24 : decode m_P_restore.2.1 24 = .ok (.iinc 2 (-1), 3) := by decide +kernel
theorem d_P_restore_27 : decode m_P_restore.2.1 27 = .ok (.goto (-20), 3) := by decide +kernel
theorem d_P_restore_30 : decode m_P_restore.2.1 30 = .ok (.aload_n 0, 1) := by decide +kernel
theorem d_P_restore_31 : decode m_P_restore.2.1 31 = .ok (.iload_n 2, 1) := by decide +kernel
theorem d_P_restore_32 : decode m_P_restore.2.1 32 = .ok (.ifCond .lt 7, 3) := by decide +kernel
theorem d_P_restore_35 : decode m_P_restore.2.1 35 = .ok (.iconst 1, 1) := by decide +kernel
theorem d_P_restore_36 : decode m_P_restore.2.1 36 = .ok (.goto 4, 3) := by decide +kernel
theorem d_P_restore_39 : decode m_P_restore.2.1 39 = .ok (.iconst 0, 1) := by decide +kernel
theorem d_P_restore_40 : decode m_P_restore.2.1 40 = .ok (.bipush 10, 2) := by decide +kernel
theorem d_P_restore_42 : decode m_P_restore.2.1 42 = .ok (.invokevirtual 170, 3) := by decide +kernel
theorem d_P_restore_45 : decode m_P_restore.2.1 45 = .ok (.iload_n 2, 1) := by decide +kernel
theorem d_P_restore_46 : decode m_P_restore.2.1 46 = .ok (.ifCond .ge 4, 3) := by decide +kernel
theorem d_P_restore_49 : decode m_P_restore.2.1 49 = .ok (.return_, 1) := by decide +kernel
theorem d_P_restore_50 : decode m_P_restore.2.1 50 = .ok (.aload_n 0, 1) := by decide +kernel
theorem d_P_restore_51 : decode m_P_restore.2.1 51 = .ok (.getfield 89, 3) := by decide +kernel
theorem d_P_restore_54 : decode m_P_restore.2.1 54 = .ok (.iload_n 2, 1) := by decide +kernel
theorem d_P_restore_55 : decode m_P_restore.2.1 55 = .ok (.aaload, 1) := by decide +kernel
theorem d_P_restore_56 : decode m_P_restore.2.1 56 = .ok (.astore_n 3, 1) := by decide +kernel
theorem d_P_restore_57 : decode m_P_restore.2.1 57 = .ok (.iconst 0, 1) := by decide +kernel
theorem d_P_restore_58 : decode m_P_restore.2.1 58 = .ok (.istore 4, 2) := by decide +kernel
theorem d_P_restore_60 : decode m_P_restore.2.1 60 = .ok (.iload 4, 2) := by decide +kernel
theorem d_P_restore_62 : decode m_P_restore.2.1 62 = .ok (.aload_n 0, 1) := by decide +kernel
theorem d_P_restore_63 : decode m_P_restore.2.1 63 = .ok (.getfield 174, 3) := by decide +kernel
theorem d_P_restore_66 : decode m_P_restore.2.1 66 = .ok (.iconst 1, 1) := by decide +kernel
theorem d_P_restore_67 : decode m_P_restore.2.1 67 = .ok (.isub, 1) := by decide +kernel
theorem d_P_restore_68 : decode m_P_restore.2.1 68 = .ok (.if_icmp .ge 34, 3) := by decide +kernel
theorem d_P_restore_71 : decode m_P_restore.2.1 71 = .ok (.aload_n 0, 1) := by decide +kernel
theorem d_P_restore_72 : decode m_P_restore.2.1 72 = .ok (.aload_n 3, 1) := by decide +kernel
theorem d_P_restore_73 : decode m_P_restore.2.1 73 = .ok (.aload_n 0, 1) := by decide +kernel
theorem d_P_restore_74 : decode m_P_restore.2.1 74 = .ok (.getfield 53, 3) := by decide +kernel
theorem d_P_restore_77 : decode m_P_restore.2.1 77 = .ok (.iload 4, 2) := by decide +kernel
theorem d_P_restore_79 : decode m_P_restore.2.1 79 = .ok (.aaload, 1) := by decide +kernel
theorem d_P_restore_80 : decode m_P_restore.2.1 80 = .ok (.invokevirtual 285, 3) := by decide +kernel
theorem d_P_restore_83 : decode m_P_restore.2.1 83 = .ok (.ifCond .ne 7, 3) := by decide +kernel
theorem d_P_restore_86 : decode m_P_restore.2.1 86 = .ok (.iconst 1, 1) := by decide +kernel
theorem d_P_restore_87 : decode m_P_restore.2.1 87 = .ok (.goto 4, 3) := by decide +kernel
theorem d_P_restore_90 : decode m_P_restore.2.1 90 = .ok (.iconst 0, 1) := by decide +kernel
theorem d_P_restore_91 : decode m_P_restore.2.1 91 = .ok (.bipush 10, 2) := by decide +kernel
theorem d_P_restore_93 : decode m_P_restore.2.1 93 = .ok (.invokevirtual 170, 3) := by decide +kernel
theorem d_P_restore_96 : decode m_P_restore.2.1 96 = .ok (.iinc 4 1, 3) := by decide +kernel
theorem d_P_restore_99 : decode m_P_restore.2.1 99 = .ok (.goto (-39), 3) := by decide +kernel
theorem d_P_restore_102 : decode m_P_restore.2.1 102 = .ok (.iconst 0, 1) := by decide +kernel
theorem d_P_restore_103 : decode m_P_restore.2.1 103 = .ok (.istore 4, 2) := by decide +kernel
theorem d_P_restore_105 : decode m_P_restore.2.1 105 = .ok (.iload 4, 2) := by decide +kernel
theorem d_P_restore_107 : decode m_P_restore.2.1 107 = .ok (.aload_n 0, 1) := by decide +kernel
theorem d_P_restore_108 : decode m_P_restore.2.1 108 = .ok (.getfield 76, 3) := by decide +kernel
theorem d_P_restore_111 : decode m_P_restore.2.1 111 = .ok (.if_icmp .ge 37, 3) := by decide +kernel
theorem d_P_restore_114 : decode m_P_restore.2.1 114 = .ok (.aload_n 0, 1) := by decide +kernel
theorem d_P_restore_115 : decode m_P_restore.2.1 115 = .ok (.aload_n 0, 1) := by decide +kernel
theorem d_P_restore_116 : decode m_P_restore.2.1 116 = .ok (.getfield 72, 3) := by decide +kernel
theorem d_P_restore_119 : decode m_P_restore.2.1 119 = .ok (.iload 4, 2) := by decide +kernel
theorem d_P_restore_121 : decode m_P_restore.2.1 121 = .ok (.aaload, 1) := by decide +kernel
theorem d_P_restore_122 : decode m_P_restore.2.1 122 = .ok (.getfield 196, 3) := by decide +kernel
theorem d_P_restore_125 : decode m_P_restore.2.1 125 = .ok (.aload_n 3, 1) := by decide +kernel
theorem d_P_restore_126 : decode m_P_restore.2.1 126 = .ok (.invokevirtual 289, 3) := by decide +kernel
theorem d_P_restore_129 : decode m_P_restore.2.1 129 = .ok (.if_icmp .ge 7, 3) := by decide +kernel
theorem d_P_restore_132 : decode m_P_restore.2.1 132 = .ok (.iconst 1, 1) := by decide +kernel
theorem d_P_restore_133 : decode m_P_restore.2.1 133 = .ok (.goto 4, 3) := by decide +kernel
theorem d_P_restore_136 : decode m_P_restore.2.1 136 = .ok (.iconst 0, 1) := by decide +kernel
theorem d_P_restore_137 : decode m_P_restore.2.1 137 = .ok (.bipush 10, 2) := by decide +kernel
theorem d_P_restore_139 : decode m_P_restore.2.1 139 = .ok (.invokevirtual 170, 3) := by decide +kernel
theorem d_P_restore_142 : decode m_P_restore.2.1 142 = .ok (.iinc 4 1, 3) := by decide +kernel
theorem d_P_restore_145 : decode m_P_restore.2.1 145 = .ok (.goto (-40), 3) := by decide +kernel
theorem d_P_restore_148 : decode m_P_restore.2.1 148 = .ok (.iconst 0, 1) := by decide +kernel
theorem d_P_restore_149 : decode m_P_restore.2.1 149 = .ok (.istore 4, 2) := by decide +kernel
theorem d_P_restore_151 : decode m_P_restore.2.1 151 = .ok (.iload 4, 2) := by decide +kernel
theorem d_P_restore_153 : decode m_P_restore.2.1 153 = .ok (.aload_n 0, 1) := by decide +kernel
theorem d_P_restore_154 : decode m_P_restore.2.1 154 = .ok (.getfield 291, 3) := by decide +kernel
theorem d_P_restore_157 : decode m_P_restore.2.1 157 = .ok (.if_icmp .ge 44, 3) := by decide +kernel
theorem d_P_restore_160 : decode m_P_restore.2.1 160 = .ok (.aload_n 0, 1) := by decide +kernel
theorem d_P_restore_161 : decode m_P_restore.2.1 161 = .ok (.aload_n 0, 1) := by decide +kernel
theorem d_P_restore_162 : decode m_P_restore.2.1 162 = .ok (.getfield 84, 3) := by decide +kernel
theorem d_P_restore_165 : decode m_P_restore.2.1 165 = .ok (.iload 4, 2) := by decide +kernel
theorem d_P_restore_167 : decode m_P_restore.2.1 167 = .ok (.iaload, 1) := by decide +kernel
theorem d_P_restore_168 : decode m_P_restore.2.1 168 = .ok (.ifCond .eq 17, 3) := by decide +kernel
theorem d_P_restore_171 : decode m_P_restore.2.1 171 = .ok (.aload_n 0, 1) := by decide +kernel
theorem d_P_restore_172 : decode m_P_restore.2.1 172 = .ok (.getfield 80, 3) := by decide +kernel
theorem d_P_restore_175 : decode m_P_restore.2.1 175 = .ok (.iload 4, 2) := by decide +kernel
theorem d_P_restore_177 : decode m_P_restore.2.1 177 = .ok (.iaload, 1) := by decide +kernel
theorem d_P_restore_178 : decode m_P_restore.2.1 178 = .ok (.aload_n 3, 1) := by decide +kernel
theorem d_P_restore_179 : decode m_P_restore.2.1 179 = .ok (.invokevirtual 294, 3) := by decide +kernel
theorem d_P_restore_182 : decode m_P_restore.2.1 182 = .ok (.if_icmp .ge 7, 3) := by decide +kernel
theorem d_P_restore_185 : decode m_P_restore.2.1 185 = .ok (.iconst 1, 1) := by decide +kernel
theorem d_P_restore_186 : decode m_P_restore.2.1 186 = .ok (.goto 4, 3) := by decide +kernel
theorem d_P_restore_189 : decode m_P_restore.2.1 189 = .ok (.iconst 0, 1) := by decide +kernel
theorem d_P_restore_190 : decode m_P_restore.2.1 190 = .ok (.bipush 10, 2) := by decide +kernel
theorem d_P_restore_192 : decode m_P_restore.2.1 192 = .ok (.invokevirtual 170, 3) := by decide +kernel
theorem d_P_restore_195 : decode m_P_restore.2.1 195 = .ok (.iinc 4 1, 3) := by decide +kernel
theorem d_P_restore_198 : decode m_P_restore.2.1 198 = .ok (.goto (-47), 3) := by decide +kernel
theorem d_P_restore_201 : decode m_P_restore.2.1 201 = .ok (.aload_n 0, 1) := by decide +kernel
theorem d_P_restore_202 : decode m_P_restore.2.1 202 = .ok (.getfield 242, 3) := by decide +kernel
theorem d_P_restore_205 : decode m_P_restore.2.1 205 = .ok (.aload_n 3, 1) := by decide +kernel
theorem d_P_restore_206 : decode m_P_restore.2.1 206 = .ok (.invokevirtual 296, 3) := by decide +kernel
theorem d_P_restore_209 : decode m_P_restore.2.1 209 = .ok (.if_acmp .eq 35, 3) := by decide +kernel
theorem d_P_restore_212 : decode m_P_restore.2.1 212 = .ok (.aload_n 0, 1) := by decide +kernel
theorem d_P_restore_213 : decode m_P_restore.2.1 213 = .ok (.getfield 242, 3) := by decide +kernel
theorem d_P_restore_216 : decode m_P_restore.2.1 216 = .ok (.ifnull 28, 3) := by decide +kernel
theorem d_P_restore_219 : decode m_P_restore.2.1 219 = .ok (.aload_n 0, 1) := by decide +kernel
theorem d_P_restore_220 : decode m_P_restore.2.1 220 = .ok (.getfield 242, 3) := by decide +kernel
theorem d_P_restore_223 : decode m_P_restore.2.1 223 = .ok (.invokeinterface 300 1, 5) := by decide +kernel
theorem d_P_restore_228 : decode m_P_restore.2.1 228 = .ok (.aload_n 0, 1) := by decide +kernel
theorem d_P_restore_229 : decode m_P_restore.2.1 229 = .ok (.aload_n 0, 1) := by decide +kernel
theorem d_P_restore_230 : decode m_P_restore.2.1 230 = .ok (.getfield 242, 3) := by decide +kernel
theorem d_P_restore_233 : decode m_P_restore.2.1 233 = .ok (.invokeinterface 305 1, 5) := by decide +kernel
theorem d_P_restore_238 : decode m_P_restore.2.1 238 = .ok (.putfield 242, 3) := by decide +kernel
theorem d_P_restore_241 : decode m_P_restore.2.1 241 = .ok (.goto (-40), 3) := by decide +kernel
theorem d_P_restore_244 : decode m_P_restore.2.1 244 = .ok (.aload_n 0, 1) := by decide +kernel
theorem d_P_restore_245 : decode m_P_restore.2.1 245 = .ok (.iload_n 2, 1) := by decide +kernel
theorem d_P_restore_246 : decode m_P_restore.2.1 246 = .ok (.putfield 234, 3) := by decide +kernel
theorem d_P_restore_249 : decode m_P_restore.2.1 249 = .ok (.aload_n 0, 1) := by decide +kernel
theorem d_P_restore_250 : decode m_P_restore.2.1 250 = .ok (.aload_n 3, 1) := by decide +kernel
theorem d_P_restore_251 : decode m_P_restore.2.1 251 = .ok (.invokevirtual 294, 3) := by decide +kernel
theorem d_P_restore_254 : decode m_P_restore.2.1 254 = .ok (.putfield 231, 3) := by decide +kernel
theorem d_P_restore_257 : decode m_P_restore.2.1 257 = .ok (.aload_n 0, 1) := by decide +kernel
theorem d_P_restore_258 : decode m_P_restore.2.1 258 = .ok (.getfield 66, 3) := by decide +kernel
theorem d_P_restore_261 : decode m_P_restore.2.1 261 = .ok (.invokevirtual 276, 3) := by decide +kernel
theorem d_P_restore_264 : decode m_P_restore.2.1 264 = .ok (.aload_n 3, 1) := by decide +kernel
theorem d_P_restore_265 : decode m_P_restore.2.1 265 = .ok (.invokevirtual 289, 3) := by decide +kernel
theorem d_P_restore_268 : decode m_P_restore.2.1 268 = .ok (.if_icmp .le 23, 3) := by decide +kernel
theorem d_P_restore_271 : decode m_P_restore.2.1 271 = .ok (.aload_n 0, 1) := by decide +kernel
theorem d_P_restore_272 : decode m_P_restore.2.1 272 = .ok (.getfield 66, 3) := by decide +kernel
theorem d_P_restore_275 : decode m_P_restore.2.1 275 = .ok (.aload_n 0, 1) := by decide +kernel
theorem d_P_restore_276 : decode m_P_restore.2.1 276 = .ok (.getfield 66, 3) := by decide +kernel
theorem d_P_restore_279 : decode m_P_restore.2.1 279 = .ok (.invokevirtual 276, 3) := by decide +kernel
theorem d_P_restore_282 : decode m_P_restore.2.1 282 = .ok (.iconst 1, 1) := by decide +kernel
theorem d_P_restore_283 : decode m_P_restore.2.1 283 = .ok (.isub, 1) := by decide +kernel
theorem d_P_restore_284 : decode m_P_restore.2.1 284 = .ok (.invokevirtual 308, 3) := by decide +kernel
theorem d_P_restore_287 : decode m_P_restore.2.1 287 = .ok (.pop, 1) := by decide +kernel
theorem d_P_restore_288 : decode m_P_restore.2.1 288 = .ok (.goto (-31), 3) := by decide +kernel
theorem d_P_restore_291 : decode m_P_restore.2.1 291 = .ok (.aload_n 0, 1) := by decide +kernel
theorem d_P_restore_292 : decode m_P_restore.2.1 292 = .ok (.dup, 1) := by decide +kernel
theorem d_P_restore_293 : decode m_P_restore.2.1 293 = .ok (.getfield 174, 3) := by decide +kernel
theorem d_P_restore_296 : decode m_P_restore.2.1 296 = .ok (.iconst 1, 1) := by decide +kernel
theorem d_P_restore_297 : decode m_P_restore.2.1 297 = .ok (.isub, 1) := by decide +kernel
theorem d_P_restore_298 : decode m_P_restore.2.1 298 = .ok (.putfield 174, 3) := by decide +kernel
theorem d_P_restore_301 : decode m_P_restore.2.1 301 = .ok (.return_, 1) := by decide +kernel
theorem d_Turn_init_0 : decode m_Turn_init.2.1 0 = .ok (.aload_n 0, 1) := by decide +kernel
theorem d_Turn_init_1 : decode m_Turn_init.2.1 1 = .ok (.invokespecial 1, 3) := by decide +kernel
theorem d_Turn_init_4 : decode m_Turn_init.2.1 4 = .ok (.aload_n 0, 1) := by decide +kernel
theorem d_Turn_init_5 : decode m_Turn_init.2.1 5 = .ok (.iload_n 1, 1) := by decide +kernel
theorem d_Turn_init_6 : decode m_Turn_init.2.1 6 = .ok (.putfield 7, 3) := by decide +kernel
theorem d_Turn_init_9 : decode m_Turn_init.2.1 9 = .ok (.aload_n 0, 1) := by decide +kernel
theorem d_Turn_init_10 : decode m_Turn_init.2.1 10 = .ok (.iload_n 2, 1) := by decide +kernel
theorem d_Turn_init_11 : decode m_Turn_init.2.1 11 = .ok (.putfield 13, 3) := by decide +kernel
theorem d_Turn_init_14 : decode m_Turn_init.2.1 14 = .ok (.aload_n 0, 1) := by decide +kernel
theorem d_Turn_init_15 : decode m_Turn_init.2.1 15 = .ok (.iload_n 3, 1) := by decide +kernel
theorem d_Turn_init_16 : decode m_Turn_init.2.1 16 = .ok (.putfield 16, 3) := by decide +kernel
theorem d_Turn_init_19 : decode m_Turn_init.2.1 19 = .ok (.return_, 1) := by decide +kernel
theorem d_P_step_0 : decode m_P_step.2.1 0 = .ok (.aload_n 0, 1) := by decide +kernel
theorem d_P_step_1 : decode m_P_step.2.1 1 = .ok (.aload_n 0, 1) := by decide +kernel
theorem d_P_step_2 : decode m_P_step.2.1 2 = .ok (.getfield 311, 3) := by decide +kernel
theorem d_P_step_5 : decode m_P_step.2.1 5 = .ok (.aload_n 0, 1) := by decide +kernel
theorem d_P_step_6 : decode m_P_step.2.1 6 = .ok (.getfield 314, 3) := by decide +kernel
theorem d_P_step_9 : decode m_P_step.2.1 9 = .ok (.if_icmp .ge 7, 3) := by decide +kernel
theorem d_P_step_12 : decode m_P_step.2.1 12 = .ok (.iconst 1, 1) := by decide +kernel
theorem d_P_step_13 : decode m_P_step.2.1 13 = .ok (.goto 4, 3) := by decide +kernel
theorem d_P_step_16 : decode m_P_step.2.1 16 = .ok (.iconst 0, 1) := by decide +kernel
theorem d_P_step_17 : decode m_P_step.2.1 17 = .ok (.bipush 16, 2) := by decide +kernel
theorem d_P_step_19 : decode m_P_step.2.1 19 = .ok (.invokevirtual 170, 3) := by decide +kernel
theorem d_P_step_22 : decode m_P_step.2.1 22 = .ok (.aload_n 0, 1) := by decide +kernel
theorem d_P_step_23 : decode m_P_step.2.1 23 = .ok (.dup, 1) := by decide +kernel
theorem d_P_step_24 : decode m_P_step.2.1 24 = .ok (.getfield 311, 3) := by decide +kernel
theorem d_P_step_27 : decode m_P_step.2.1 27 = .ok (.iconst 1, 1) := by decide +kernel
theorem d_P_step_28 : decode m_P_step.2.1 28 = .ok (.iadd, 1) := by decide +kernel
theorem d_P_step_29 : decode m_P_step.2.1 29 = .ok (.putfield 311, 3) := by decide +kernel
theorem d_P_step_32 : decode m_P_step.2.1 32 = .ok (.return_, 1) := by decide +kernel
theorem d_P_push_0 : decode m_P_push.2.1 0 = .ok (.aload_n 0, 1) := by decide +kernel
theorem d_P_push_1 : decode m_P_push.2.1 1 = .ok (.iconst 0, 1) := by decide +kernel
theorem d_P_push_2 : decode m_P_push.2.1 2 = .ok (.invokevirtual 178, 3) := by decide +kernel
theorem d_P_push_5 : decode m_P_push.2.1 5 = .ok (.aload_n 1, 1) := by decide +kernel
theorem d_P_push_6 : decode m_P_push.2.1 6 = .ok (.invokevirtual 182, 3) := by decide +kernel
theorem d_P_push_9 : decode m_P_push.2.1 9 = .ok (.return_, 1) := by decide +kernel
theorem d_Turn_go_0 : decode m_Turn_go.2.1 0 = .ok (.aload_n 1, 1) := by decide +kernel
theorem d_Turn_go_1 : decode m_Turn_go.2.1 1 = .ok (.invokevirtual 19, 3) := by decide +kernel
theorem d_Turn_go_4 : decode m_Turn_go.2.1 4 = .ok (.aload_n 2, 1) := by decide +kernel
theorem d_Turn_go_5 : decode m_Turn_go.2.1 5 = .ok (.ifnull 8, 3) := by decide +kernel
theorem d_Turn_go_8 : decode m_Turn_go.2.1 8 = .ok (.aload_n 1, 1) := by decide +kernel
theorem d_Turn_go_9 : decode m_Turn_go.2.1 9 = .ok (.aload_n 2, 1) := by decide +kernel
theorem d_Turn_go_10 : decode m_Turn_go.2.1 10 = .ok (.invokevirtual 24, 3) := by decide +kernel
theorem d_Turn_go_13 : decode m_Turn_go.2.1 13 = .ok (.aload_n 1, 1) := by decide +kernel
theorem d_Turn_go_14 : decode m_Turn_go.2.1 14 = .ok (.aload_n 0, 1) := by decide +kernel
theorem d_Turn_go_15 : decode m_Turn_go.2.1 15 = .ok (.getfield 7, 3) := by decide +kernel
theorem d_Turn_go_18 : decode m_Turn_go.2.1 18 = .ok (.aload_n 0, 1) := by decide +kernel
theorem d_Turn_go_19 : decode m_Turn_go.2.1 19 = .ok (.getfield 13, 3) := by decide +kernel
theorem d_Turn_go_22 : decode m_Turn_go.2.1 22 = .ok (.aload_n 0, 1) := by decide +kernel
theorem d_Turn_go_23 : decode m_Turn_go.2.1 23 = .ok (.getfield 16, 3) := by decide +kernel
theorem d_Turn_go_26 : decode m_Turn_go.2.1 26 = .ok (.invokevirtual 28, 3) := by decide +kernel
theorem d_Turn_go_29 : decode m_Turn_go.2.1 29 = .ok (.return_, 1) := by decide +kernel
theorem d_Flow_stretch_0 : decode m_Flow_stretch.2.1 0 = .ok (.new 30, 3) := by decide +kernel
theorem d_Flow_stretch_3 : decode m_Flow_stretch.2.1 3 = .ok (.dup, 1) := by decide +kernel
theorem d_Flow_stretch_4 : decode m_Flow_stretch.2.1 4 = .ok (.invokespecial 131, 3) := by decide +kernel
theorem d_Flow_stretch_7 : decode m_Flow_stretch.2.1 7 = .ok (.astore 8, 2) := by decide +kernel
theorem d_Flow_stretch_9 : decode m_Flow_stretch.2.1 9 = .ok (.lload_n 1, 1) := by decide +kernel
theorem d_Flow_stretch_10 : decode m_Flow_stretch.2.1 10 = .ok (.lstore 9, 2) := by decide +kernel
theorem d_Flow_stretch_12 : decode m_Flow_stretch.2.1 12 = .ok (.aload_n 0, 1) := by decide +kernel
theorem d_Flow_stretch_13 : decode m_Flow_stretch.2.1 13 = .ok (.getfield 64, 3) := by decide +kernel
theorem d_Flow_stretch_16 : decode m_Flow_stretch.2.1 16 = .ok (.ifCond .ne 58, 3) := by decide +kernel
theorem d_Flow_stretch_19 : decode m_Flow_stretch.2.1 19 = .ok (.lload_n 3, 1) := by decide +kernel
theorem d_Flow_stretch_20 : decode m_Flow_stretch.2.1 20 = .ok (.lconst 0, 1) := by decide +kernel
theorem d_Flow_stretch_21 : decode m_Flow_stretch.2.1 21 = .ok (.lcmp, 1) := by decide +kernel
theorem d_Flow_stretch_22 : decode m_Flow_stretch.2.1 22 = .ok (.ifCond .lt 14, 3) := by decide +kernel
theorem d_Flow_stretch_25 : decode m_Flow_stretch.2.1 25 = .ok (.lload 9, 2) := by decide +kernel
theorem d_Flow_stretch_27 : decode m_Flow_stretch.2.1 27 = .ok (.lload 5, 2) := by decide +kernel
theorem d_Flow_stretch_29 : decode m_Flow_stretch.2.1 29 = .ok (.lcmp, 1) := by decide +kernel
theorem d_Flow_stretch_30 : decode m_Flow_stretch.2.1 30 = .ok (.ifCond .gt 44, 3) := by decide +kernel
theorem d_Flow_stretch_33 : decode m_Flow_stretch.2.1 33 = .ok (.goto 11, 3) := by decide +kernel
theorem d_Flow_stretch_36 : decode m_Flow_stretch.2.1 36 = .ok (.lload 9, 2) := by decide +kernel
theorem d_Flow_stretch_38 : decode m_Flow_stretch.2.1 38 = .ok (.lload 5, 2) := by decide +kernel
theorem d_Flow_stretch_40 : decode m_Flow_stretch.2.1 40 = .ok (.lcmp, 1) := by decide +kernel
theorem d_Flow_stretch_41 : decode m_Flow_stretch.2.1 41 = .ok (.ifCond .lt 33, 3) := by decide +kernel
theorem d_Flow_stretch_44 : decode m_Flow_stretch.2.1 44 = .ok (.aload 8, 2) := by decide +kernel
theorem d_Flow_stretch_46 : decode m_Flow_stretch.2.1 46 = .ok (.getstatic 76, 3) := by decide +kernel
theorem d_Flow_stretch_49 : decode m_Flow_stretch.2.1 49 = .ok (.lload 9, 2) := by decide +kernel
theorem d_Flow_stretch_51 : decode m_Flow_stretch.2.1 51 = .ok (.l2i, 1) := by decide +kernel
theorem d_Flow_stretch_52 : decode m_Flow_stretch.2.1 52 = .ok (.iconst 0, 1) := by decide +kernel
theorem d_Flow_stretch_53 : decode m_Flow_stretch.2.1 53 = .ok (.iconst 0, 1) := by decide +kernel
theorem d_Flow_stretch_54 : decode m_Flow_stretch.2.1 54 = .ok (.invokevirtual 132, 3) := by decide +kernel
theorem d_Flow_stretch_57 : decode m_Flow_stretch.2.1 57 = .ok (.aload 7, 2) := by decide +kernel
theorem d_Flow_stretch_59 : decode m_Flow_stretch.2.1 59 = .ok (.aload_n 0, 1) := by decide +kernel
theorem d_Flow_stretch_60 : decode m_Flow_stretch.2.1 60 = .ok (.aload 8, 2) := by decide +kernel
theorem d_Flow_stretch_62 : decode m_Flow_stretch.2.1 62 = .ok (.invokevirtual 114, 3) := by decide +kernel
theorem d_Flow_stretch_65 : decode m_Flow_stretch.2.1 65 = .ok (.lload 9, 2) := by decide +kernel
theorem d_Flow_stretch_67 : decode m_Flow_stretch.2.1 67 = .ok (.lload_n 3, 1) := by decide +kernel
theorem d_Flow_stretch_68 : decode m_Flow_stretch.2.1 68 = .ok (.ladd, 1) := by decide +kernel
theorem d_Flow_stretch_69 : decode m_Flow_stretch.2.1 69 = .ok (.lstore 9, 2) := by decide +kernel
theorem d_Flow_stretch_71 : decode m_Flow_stretch.2.1 71 = .ok (.goto (-59), 3) := by decide +kernel
theorem d_Flow_stretch_74 : decode m_Flow_stretch.2.1 74 = .ok (.return_, 1) := by decide +kernel
theorem d_Flow_turns_0 : decode m_Flow_turns.2.1 0 = .ok (.aload_n 1, 1) := by decide +kernel
theorem d_Flow_turns_1 : decode m_Flow_turns.2.1 1 = .ok (.invokevirtual 9, 3) := by decide +kernel
theorem d_Flow_turns_4 : decode m_Flow_turns.2.1 4 = .ok (.tableswitch 284 55 58 #[32, 114, 284, 191], 32) := by decide +kernel
theorem d_Flow_turns_36 : decode m_Flow_turns.2.1 36 = .ok (.aload_n 0, 1) := by decide +kernel
theorem d_Flow_turns_37 : decode m_Flow_turns.2.1 37 = .ok (.iconst 1, 1) := by decide +kernel
theorem d_Flow_turns_38 : decode m_Flow_turns.2.1 38 = .ok (.invokevirtual 46, 3) := by decide +kernel
theorem d_Flow_turns_41 : decode m_Flow_turns.2.1 41 = .ok (.astore 5, 2) := by decide +kernel
theorem d_Flow_turns_43 : decode m_Flow_turns.2.1 43 = .ok (.aload_n 0, 1) := by decide +kernel
theorem d_Flow_turns_44 : decode m_Flow_turns.2.1 44 = .ok (.aload_n 2, 1) := by decide +kernel
theorem d_Flow_turns_45 : decode m_Flow_turns.2.1 45 = .ok (.getstatic 76, 3) := by decide +kernel
theorem d_Flow_turns_48 : decode m_Flow_turns.2.1 48 = .ok (.invokevirtual 29, 3) := by decide +kernel
theorem d_Flow_turns_51 : decode m_Flow_turns.2.1 51 = .ok (.ifCond .eq 28, 3) := by decide +kernel
theorem d_Flow_turns_54 : decode m_Flow_turns.2.1 54 = .ok (.aload_n 3, 1) := by decide +kernel
theorem d_Flow_turns_55 : decode m_Flow_turns.2.1 55 = .ok (.getstatic 76, 3) := by decide +kernel
theorem d_Flow_turns_58 : decode m_Flow_turns.2.1 58 = .ok (.invokevirtual 29, 3) := by decide +kernel
theorem d_Flow_turns_61 : decode m_Flow_turns.2.1 61 = .ok (.ifCond .eq 18, 3) := by decide +kernel
theorem d_Flow_turns_64 : decode m_Flow_turns.2.1 64 = .ok (.aload 5, 2) := by decide +kernel
theorem d_Flow_turns_66 : decode m_Flow_turns.2.1 66 = .ok (.getstatic 76, 3) := by decide +kernel
theorem d_Flow_turns_69 : decode m_Flow_turns.2.1 69 = .ok (.invokevirtual 29, 3) := by decide +kernel
theorem d_Flow_turns_72 : decode m_Flow_turns.2.1 72 = .ok (.ifCond .eq 7, 3) := by decide +kernel
theorem d_Flow_turns_75 : decode m_Flow_turns.2.1 75 = .ok (.iconst 1, 1) := by decide +kernel
theorem d_Flow_turns_76 : decode m_Flow_turns.2.1 76 = .ok (.goto 4, 3) := by decide +kernel
theorem d_Flow_turns_79 : decode m_Flow_turns.2.1 79 = .ok (.iconst 0, 1) := by decide +kernel
theorem d_Flow_turns_80 : decode m_Flow_turns.2.1 80 = .ok (.invokevirtual 39, 3) := by decide +kernel
theorem d_Flow_turns_83 : decode m_Flow_turns.2.1 83 = .ok (.aload_n 0, 1) := by decide +kernel
theorem d_Flow_turns_84 : decode m_Flow_turns.2.1 84 = .ok (.dup, 1) := by decide +kernel
theorem d_Flow_turns_85 : decode m_Flow_turns.2.1 85 = .ok (.getfield 15, 3) := by decide +kernel
theorem d_Flow_turns_88 : decode m_Flow_turns.2.1 88 = .ok (.iconst 4, 1) := by decide +kernel
theorem d_Flow_turns_89 : decode m_Flow_turns.2.1 89 = .ok (.isub, 1) := by decide +kernel
theorem d_Flow_turns_90 : decode m_Flow_turns.2.1 90 = .ok (.putfield 15, 3) := by decide +kernel
theorem d_Flow_turns_93 : decode m_Flow_turns.2.1 93 = .ok (.aload_n 0, 1) := by decide +kernel
theorem d_Flow_turns_94 : decode m_Flow_turns.2.1 94 = .ok (.aload_n 2, 1) := by decide +kernel
theorem d_Flow_turns_95 : decode m_Flow_turns.2.1 95 = .ok (.getfield 43, 3) := by decide +kernel
theorem d_Flow_turns_98 : decode m_Flow_turns.2.1 98 = .ok (.i2l, 1) := by decide +kernel
theorem d_Flow_turns_99 : decode m_Flow_turns.2.1 99 = .ok (.aload_n 3, 1) := by decide +kernel
theorem d_Flow_turns_100 : decode m_Flow_turns.2.1 100 = .ok (.getfield 43, 3) := by decide +kernel
theorem d_Flow_turns_103 : decode m_Flow_turns.2.1 103 = .ok (.i2l, 1) := by decide +kernel
theorem d_Flow_turns_104 : decode m_Flow_turns.2.1 104 = .ok (.aload 5, 2) := by decide +kernel
theorem d_Flow_turns_106 : decode m_Flow_turns.2.1 106 = .ok (.getfield 43, 3) := by decide +kernel
theorem d_Flow_turns_109 : decode m_Flow_turns.2.1 109 = .ok (.i2l, 1) := by decide +kernel
theorem d_Flow_turns_110 : decode m_Flow_turns.2.1 110 = .ok (.aload 4, 2) := by decide +kernel
theorem d_Flow_turns_112 : decode m_Flow_turns.2.1 112 = .ok (.invokestatic 110, 3) := by decide +kernel
theorem d_Flow_turns_115 : decode m_Flow_turns.2.1 115 = .ok (.goto 200, 3) := by decide +kernel
theorem d_Flow_turns_118 : decode m_Flow_turns.2.1 118 = .ok (.aload_n 0, 1) := by decide +kernel
theorem d_Flow_turns_119 : decode m_Flow_turns.2.1 119 = .ok (.aload_n 2, 1) := by decide +kernel
theorem d_Flow_turns_120 : decode m_Flow_turns.2.1 120 = .ok (.getstatic 76, 3) := by decide +kernel
theorem d_Flow_turns_123 : decode m_Flow_turns.2.1 123 = .ok (.invokevirtual 29, 3) := by decide +kernel
theorem d_Flow_turns_126 : decode m_Flow_turns.2.1 126 = .ok (.invokevirtual 39, 3) := by decide +kernel
theorem d_Flow_turns_129 : decode m_Flow_turns.2.1 129 = .ok (.aload_n 0, 1) := by decide +kernel
theorem d_Flow_turns_130 : decode m_Flow_turns.2.1 130 = .ok (.aload_n 2, 1) := by decide +kernel
theorem d_Flow_turns_131 : decode m_Flow_turns.2.1 131 = .ok (.getfield 43, 3) := by decide +kernel
theorem d_Flow_turns_134 : decode m_Flow_turns.2.1 134 = .ok (.ifCond .lt 7, 3) := by decide +kernel
theorem d_Flow_turns_137 : decode m_Flow_turns.2.1 137 = .ok (.iconst 1, 1) := by decide +kernel
theorem d_Flow_turns_138 : decode m_Flow_turns.2.1 138 = .ok (.goto 4, 3) := by decide +kernel
theorem d_Flow_turns_141 : decode m_Flow_turns.2.1 141 = .ok (.iconst 0, 1) := by decide +kernel
theorem d_Flow_turns_142 : decode m_Flow_turns.2.1 142 = .ok (.iconst 4, 1) := by decide +kernel
theorem d_Flow_turns_143 : decode m_Flow_turns.2.1 143 = .ok (.invokevirtual 60, 3) := by decide +kernel
theorem d_Flow_turns_146 : decode m_Flow_turns.2.1 146 = .ok (.aload_n 0, 1) := by decide +kernel
theorem d_Flow_turns_147 : decode m_Flow_turns.2.1 147 = .ok (.dup, 1) := by decide +kernel
theorem d_Flow_turns_148 : decode m_Flow_turns.2.1 148 = .ok (.getfield 15, 3) := by decide +kernel
theorem d_Flow_turns_151 : decode m_Flow_turns.2.1 151 = .ok (.iconst 2, 1) := by decide +kernel
theorem d_Flow_turns_152 : decode m_Flow_turns.2.1 152 = .ok (.isub, 1) := by decide +kernel
theorem d_Flow_turns_153 : decode m_Flow_turns.2.1 153 = .ok (.putfield 15, 3) := by decide +kernel
theorem d_Flow_turns_156 : decode m_Flow_turns.2.1 156 = .ok (.aload_n 2, 1) := by decide +kernel
theorem d_Flow_turns_157 : decode m_Flow_turns.2.1 157 = .ok (.getfield 43, 3) := by decide +kernel
theorem d_Flow_turns_160 : decode m_Flow_turns.2.1 160 = .ok (.istore 6, 2) := by decide +kernel
theorem d_Flow_turns_162 : decode m_Flow_turns.2.1 162 = .ok (.iconst 0, 1) := by decide +kernel
theorem d_Flow_turns_163 : decode m_Flow_turns.2.1 163 = .ok (.istore 7, 2) := by decide +kernel
theorem d_Flow_turns_165 : decode m_Flow_turns.2.1 165 = .ok (.iload 7, 2) := by decide +kernel
theorem d_Flow_turns_167 : decode m_Flow_turns.2.1 167 = .ok (.iload 6, 2) := by decide +kernel
theorem d_Flow_turns_169 : decode m_Flow_turns.2.1 169 = .ok (.if_icmp .ge 23, 3) := by decide +kernel
theorem d_Flow_turns_172 : decode m_Flow_turns.2.1 172 = .ok (.aload_n 0, 1) := by decide +kernel
theorem d_Flow_turns_173 : decode m_Flow_turns.2.1 173 = .ok (.getfield 64, 3) := by decide +kernel
theorem d_Flow_turns_176 : decode m_Flow_turns.2.1 176 = .ok (.ifCond .ne 16, 3) := by decide +kernel
theorem d_Flow_turns_179 : decode m_Flow_turns.2.1 179 = .ok (.aload 4, 2) := by decide +kernel
theorem d_Flow_turns_181 : decode m_Flow_turns.2.1 181 = .ok (.aload_n 0, 1) := by decide +kernel
theorem d_Flow_turns_182 : decode m_Flow_turns.2.1 182 = .ok (.aconst_null, 1) := by decide +kernel
theorem d_Flow_turns_183 : decode m_Flow_turns.2.1 183 = .ok (.invokevirtual 114, 3) := by decide +kernel
theorem d_Flow_turns_186 : decode m_Flow_turns.2.1 186 = .ok (.iinc 7 1, 3) := by decide +kernel
