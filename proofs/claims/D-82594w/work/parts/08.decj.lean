theorem d_Ainit_0 : decode b_Ainit 0 = .ok (.aload_n 0, 1) := by decide +kernel
theorem d_Ainit_1 : decode b_Ainit 1 = .ok (.invokespecial 1, 3) := by decide +kernel
theorem d_Ainit_4 : decode b_Ainit 4 = .ok (.aload_n 0, 1) := by decide +kernel
theorem d_Ainit_5 : decode b_Ainit 5 = .ok (.getstatic 39, 3) := by decide +kernel
theorem d_Ainit_8 : decode b_Ainit 8 = .ok (.putfield 9, 3) := by decide +kernel
theorem d_Ainit_11 : decode b_Ainit 11 = .ok (.return_, 1) := by decide +kernel
theorem d_Yinit_0 : decode b_Yinit 0 = .ok (.aload_n 0, 1) := by decide +kernel
theorem d_Yinit_1 : decode b_Yinit 1 = .ok (.invokespecial 1, 3) := by decide +kernel
theorem d_Yinit_4 : decode b_Yinit 4 = .ok (.aload_n 0, 1) := by decide +kernel
theorem d_Yinit_5 : decode b_Yinit 5 = .ok (.iconst 0, 1) := by decide +kernel
theorem d_Yinit_6 : decode b_Yinit 6 = .ok (.putfield 7, 3) := by decide +kernel
theorem d_Yinit_9 : decode b_Yinit 9 = .ok (.return_, 1) := by decide +kernel
theorem d_Zinit_0 : decode b_Zinit 0 = .ok (.aload_n 0, 1) := by decide +kernel
theorem d_Zinit_1 : decode b_Zinit 1 = .ok (.invokespecial 1, 3) := by decide +kernel
theorem d_Zinit_4 : decode b_Zinit 4 = .ok (.return_, 1) := by decide +kernel
theorem d_Asize_0 : decode b_Asize 0 = .ok (.aload_n 0, 1) := by decide +kernel
theorem d_Asize_1 : decode b_Asize 1 = .ok (.getfield 48, 3) := by decide +kernel
theorem d_Asize_4 : decode b_Asize 4 = .ok (.ireturn, 1) := by decide +kernel
theorem d_Qinit_0 : decode b_Qinit 0 = .ok (.aload_n 0, 1) := by decide +kernel
theorem d_Qinit_1 : decode b_Qinit 1 = .ok (.invokespecial 1, 3) := by decide +kernel
theorem d_Qinit_4 : decode b_Qinit 4 = .ok (.return_, 1) := by decide +kernel
theorem d_Aadd1_0 : decode b_Aadd1 0 = .ok (.aload_n 0, 1) := by decide +kernel
theorem d_Aadd1_1 : decode b_Aadd1 1 = .ok (.dup, 1) := by decide +kernel
theorem d_Aadd1_2 : decode b_Aadd1 2 = .ok (.getfield 63, 3) := by decide +kernel
theorem d_Aadd1_5 : decode b_Aadd1 5 = .ok (.iconst 1, 1) := by decide +kernel
theorem d_Aadd1_6 : decode b_Aadd1 6 = .ok (.iadd, 1) := by decide +kernel
theorem d_Aadd1_7 : decode b_Aadd1 7 = .ok (.putfield 63, 3) := by decide +kernel
theorem d_Aadd1_10 : decode b_Aadd1 10 = .ok (.aload_n 0, 1) := by decide +kernel
theorem d_Aadd1_11 : decode b_Aadd1 11 = .ok (.aload_n 1, 1) := by decide +kernel
theorem d_Aadd1_12 : decode b_Aadd1 12 = .ok (.aload_n 0, 1) := by decide +kernel
theorem d_Aadd1_13 : decode b_Aadd1 13 = .ok (.getfield 9, 3) := by decide +kernel
theorem d_Aadd1_16 : decode b_Aadd1 16 = .ok (.aload_n 0, 1) := by decide +kernel
theorem d_Aadd1_17 : decode b_Aadd1 17 = .ok (.getfield 48, 3) := by decide +kernel
theorem d_Aadd1_20 : decode b_Aadd1 20 = .ok (.invokevirtual 131, 3) := by decide +kernel
theorem d_Aadd1_23 : decode b_Aadd1 23 = .ok (.iconst 1, 1) := by decide +kernel
theorem d_Aadd1_24 : decode b_Aadd1 24 = .ok (.ireturn, 1) := by decide +kernel
theorem d_Aadd3_0 : decode b_Aadd3 0 = .ok (.iload_n 3, 1) := by decide +kernel
theorem d_Aadd3_1 : decode b_Aadd3 1 = .ok (.aload_n 2, 1) := by decide +kernel
theorem d_Aadd3_2 : decode b_Aadd3 2 = .ok (.arraylength, 1) := by decide +kernel
theorem d_Aadd3_3 : decode b_Aadd3 3 = .ok (.if_icmp .ne 8, 3) := by decide +kernel
theorem d_Aadd3_6 : decode b_Aadd3 6 = .ok (.aload_n 0, 1) := by decide +kernel
theorem d_Aadd3_7 : decode b_Aadd3 7 = .ok (.invokevirtual 129, 3) := by decide +kernel
theorem d_Aadd3_10 : decode b_Aadd3 10 = .ok (.astore_n 2, 1) := by decide +kernel
theorem d_Aadd3_11 : decode b_Aadd3 11 = .ok (.aload_n 2, 1) := by decide +kernel
theorem d_Aadd3_12 : decode b_Aadd3 12 = .ok (.iload_n 3, 1) := by decide +kernel
theorem d_Aadd3_13 : decode b_Aadd3 13 = .ok (.aload_n 1, 1) := by decide +kernel
theorem d_Aadd3_14 : decode b_Aadd3 14 = .ok (.aastore, 1) := by decide +kernel
theorem d_Aadd3_15 : decode b_Aadd3 15 = .ok (.aload_n 0, 1) := by decide +kernel
theorem d_Aadd3_16 : decode b_Aadd3 16 = .ok (.iload_n 3, 1) := by decide +kernel
theorem d_Aadd3_17 : decode b_Aadd3 17 = .ok (.iconst 1, 1) := by decide +kernel
theorem d_Aadd3_18 : decode b_Aadd3 18 = .ok (.iadd, 1) := by decide +kernel
theorem d_Aadd3_19 : decode b_Aadd3 19 = .ok (.putfield 48, 3) := by decide +kernel
theorem d_Aadd3_22 : decode b_Aadd3 22 = .ok (.return_, 1) := by decide +kernel
theorem d_Agrow0_0 : decode b_Agrow0 0 = .ok (.aload_n 0, 1) := by decide +kernel
theorem d_Agrow0_1 : decode b_Agrow0 1 = .ok (.aload_n 0, 1) := by decide +kernel
theorem d_Agrow0_2 : decode b_Agrow0 2 = .ok (.getfield 48, 3) := by decide +kernel
theorem d_Agrow0_5 : decode b_Agrow0 5 = .ok (.iconst 1, 1) := by decide +kernel
theorem d_Agrow0_6 : decode b_Agrow0 6 = .ok (.iadd, 1) := by decide +kernel
theorem d_Agrow0_7 : decode b_Agrow0 7 = .ok (.invokevirtual 69, 3) := by decide +kernel
theorem d_Agrow0_10 : decode b_Agrow0 10 = .ok (.areturn, 1) := by decide +kernel
theorem d_Agrow1_0 : decode b_Agrow1 0 = .ok (.aload_n 0, 1) := by decide +kernel
theorem d_Agrow1_1 : decode b_Agrow1 1 = .ok (.getfield 9, 3) := by decide +kernel
theorem d_Agrow1_4 : decode b_Agrow1 4 = .ok (.arraylength, 1) := by decide +kernel
theorem d_Agrow1_5 : decode b_Agrow1 5 = .ok (.istore_n 2, 1) := by decide +kernel
theorem d_Agrow1_6 : decode b_Agrow1 6 = .ok (.iload_n 2, 1) := by decide +kernel
theorem d_Agrow1_7 : decode b_Agrow1 7 = .ok (.ifCond .gt 13, 3) := by decide +kernel
theorem d_Agrow1_10 : decode b_Agrow1 10 = .ok (.aload_n 0, 1) := by decide +kernel
theorem d_Agrow1_11 : decode b_Agrow1 11 = .ok (.getfield 9, 3) := by decide +kernel
theorem d_Agrow1_14 : decode b_Agrow1 14 = .ok (.getstatic 39, 3) := by decide +kernel
theorem d_Agrow1_17 : decode b_Agrow1 17 = .ok (.if_acmp .eq 28, 3) := by decide +kernel
theorem d_Agrow1_20 : decode b_Agrow1 20 = .ok (.iload_n 2, 1) := by decide +kernel
theorem d_Agrow1_21 : decode b_Agrow1 21 = .ok (.iload_n 1, 1) := by decide +kernel
theorem d_Agrow1_22 : decode b_Agrow1 22 = .ok (.iload_n 2, 1) := by decide +kernel
theorem d_Agrow1_23 : decode b_Agrow1 23 = .ok (.isub, 1) := by decide +kernel
theorem d_Agrow1_24 : decode b_Agrow1 24 = .ok (.iload_n 2, 1) := by decide +kernel
theorem d_Agrow1_25 : decode b_Agrow1 25 = .ok (.iconst 1, 1) := by decide +kernel
theorem d_Agrow1_26 : decode b_Agrow1 26 = .ok (.ishr, 1) := by decide +kernel
theorem d_Agrow1_27 : decode b_Agrow1 27 = .ok (.invokestatic 73, 3) := by decide +kernel
theorem d_Agrow1_30 : decode b_Agrow1 30 = .ok (.istore_n 3, 1) := by decide +kernel
theorem d_Agrow1_31 : decode b_Agrow1 31 = .ok (.aload_n 0, 1) := by decide +kernel
theorem d_Agrow1_32 : decode b_Agrow1 32 = .ok (.aload_n 0, 1) := by decide +kernel
theorem d_Agrow1_33 : decode b_Agrow1 33 = .ok (.getfield 9, 3) := by decide +kernel
theorem d_Agrow1_36 : decode b_Agrow1 36 = .ok (.iload_n 3, 1) := by decide +kernel
theorem d_Agrow1_37 : decode b_Agrow1 37 = .ok (.invokestatic 66, 3) := by decide +kernel
theorem d_Agrow1_40 : decode b_Agrow1 40 = .ok (.dup_x1, 1) := by decide +kernel
theorem d_Agrow1_41 : decode b_Agrow1 41 = .ok (.putfield 9, 3) := by decide +kernel
theorem d_Agrow1_44 : decode b_Agrow1 44 = .ok (.areturn, 1) := by decide +kernel
theorem d_Agrow1_45 : decode b_Agrow1 45 = .ok (.aload_n 0, 1) := by decide +kernel
theorem d_Agrow1_46 : decode b_Agrow1 46 = .ok (.bipush 10, 2) := by decide +kernel
theorem d_Agrow1_48 : decode b_Agrow1 48 = .ok (.iload_n 1, 1) := by decide +kernel
theorem d_Agrow1_49 : decode b_Agrow1 49 = .ok (.invokestatic 79, 3) := by decide +kernel
theorem d_Agrow1_52 : decode b_Agrow1 52 = .ok (.anewarray 7, 3) := by decide +kernel
theorem d_Agrow1_55 : decode b_Agrow1 55 = .ok (.dup_x1, 1) := by decide +kernel
theorem d_Agrow1_56 : decode b_Agrow1 56 = .ok (.putfield 9, 3) := by decide +kernel
theorem d_Agrow1_59 : decode b_Agrow1 59 = .ok (.areturn, 1) := by decide +kernel
theorem d_UnewLength_0 : decode b_UnewLength 0 = .ok (.iload_n 0, 1) := by decide +kernel
theorem d_UnewLength_1 : decode b_UnewLength 1 = .ok (.iload_n 1, 1) := by decide +kernel
theorem d_UnewLength_2 : decode b_UnewLength 2 = .ok (.iload_n 2, 1) := by decide +kernel
theorem d_UnewLength_3 : decode b_UnewLength 3 = .ok (.invokestatic 194, 3) := by decide +kernel
theorem d_UnewLength_6 : decode b_UnewLength 6 = .ok (.iadd, 1) := by decide +kernel
theorem d_UnewLength_7 : decode b_UnewLength 7 = .ok (.istore_n 3, 1) := by decide +kernel
theorem d_UnewLength_8 : decode b_UnewLength 8 = .ok (.iconst 0, 1) := by decide +kernel
theorem d_UnewLength_9 : decode b_UnewLength 9 = .ok (.iload_n 3, 1) := by decide +kernel
theorem d_UnewLength_10 : decode b_UnewLength 10 = .ok (.if_icmp .ge 11, 3) := by decide +kernel
theorem d_UnewLength_13 : decode b_UnewLength 13 = .ok (.iload_n 3, 1) := by decide +kernel
theorem d_UnewLength_14 : decode b_UnewLength 14 = .ok (.ldc 200, 2) := by decide +kernel
theorem d_UnewLength_16 : decode b_UnewLength 16 = .ok (.if_icmp .gt 5, 3) := by decide +kernel
theorem d_UnewLength_19 : decode b_UnewLength 19 = .ok (.iload_n 3, 1) := by decide +kernel
theorem d_UnewLength_20 : decode b_UnewLength 20 = .ok (.ireturn, 1) := by decide +kernel
theorem d_UnewLength_21 : decode b_UnewLength 21 = .ok (.iload_n 0, 1) := by decide +kernel
theorem d_UnewLength_22 : decode b_UnewLength 22 = .ok (.iload_n 1, 1) := by decide +kernel
theorem d_UnewLength_23 : decode b_UnewLength 23 = .ok (.invokestatic 201, 3) := by decide +kernel
theorem d_UnewLength_26 : decode b_UnewLength 26 = .ok (.ireturn, 1) := by decide +kernel
theorem d_VcopyOf2_0 : decode b_VcopyOf2 0 = .ok (.aload_n 0, 1) := by decide +kernel
theorem d_VcopyOf2_1 : decode b_VcopyOf2 1 = .ok (.iload_n 1, 1) := by decide +kernel
theorem d_VcopyOf2_2 : decode b_VcopyOf2 2 = .ok (.aload_n 0, 1) := by decide +kernel
theorem d_VcopyOf2_3 : decode b_VcopyOf2 3 = .ok (.invokevirtual 86, 3) := by decide +kernel
theorem d_VcopyOf2_6 : decode b_VcopyOf2 6 = .ok (.invokestatic 300, 3) := by decide +kernel
theorem d_VcopyOf2_9 : decode b_VcopyOf2 9 = .ok (.areturn, 1) := by decide +kernel
theorem d_VcopyOf3_0 : decode b_VcopyOf3 0 = .ok (.aload_n 2, 1) := by decide +kernel
theorem d_VcopyOf3_1 : decode b_VcopyOf3 1 = .ok (.ldc 110, 2) := by decide +kernel
theorem d_VcopyOf3_3 : decode b_VcopyOf3 3 = .ok (.if_acmp .ne 10, 3) := by decide +kernel
theorem d_VcopyOf3_6 : decode b_VcopyOf3 6 = .ok (.iload_n 1, 1) := by decide +kernel
theorem d_VcopyOf3_7 : decode b_VcopyOf3 7 = .ok (.anewarray 2, 3) := by decide +kernel
theorem d_VcopyOf3_10 : decode b_VcopyOf3 10 = .ok (.goto 14, 3) := by decide +kernel
theorem d_VcopyOf3_13 : decode b_VcopyOf3 13 = .ok (.aload_n 2, 1) := by decide +kernel
theorem d_VcopyOf3_14 : decode b_VcopyOf3 14 = .ok (.invokevirtual 90, 3) := by decide +kernel
theorem d_VcopyOf3_17 : decode b_VcopyOf3 17 = .ok (.iload_n 1, 1) := by decide +kernel
theorem d_VcopyOf3_18 : decode b_VcopyOf3 18 = .ok (.invokestatic 95, 3) := by decide +kernel
theorem d_VcopyOf3_21 : decode b_VcopyOf3 21 = .ok (.checkcast 110, 3) := by decide +kernel
theorem d_VcopyOf3_24 : decode b_VcopyOf3 24 = .ok (.astore_n 3, 1) := by decide +kernel
theorem d_VcopyOf3_25 : decode b_VcopyOf3 25 = .ok (.aload_n 0, 1) := by decide +kernel
theorem d_VcopyOf3_26 : decode b_VcopyOf3 26 = .ok (.iconst 0, 1) := by decide +kernel
theorem d_VcopyOf3_27 : decode b_VcopyOf3 27 = .ok (.aload_n 3, 1) := by decide +kernel
theorem d_VcopyOf3_28 : decode b_VcopyOf3 28 = .ok (.iconst 0, 1) := by decide +kernel
theorem d_VcopyOf3_29 : decode b_VcopyOf3 29 = .ok (.aload_n 0, 1) := by decide +kernel
theorem d_VcopyOf3_30 : decode b_VcopyOf3 30 = .ok (.arraylength, 1) := by decide +kernel
theorem d_VcopyOf3_31 : decode b_VcopyOf3 31 = .ok (.iload_n 1, 1) := by decide +kernel
theorem d_VcopyOf3_32 : decode b_VcopyOf3 32 = .ok (.invokestatic 304, 3) := by decide +kernel
theorem d_VcopyOf3_35 : decode b_VcopyOf3 35 = .ok (.invokestatic 150, 3) := by decide +kernel
theorem d_VcopyOf3_38 : decode b_VcopyOf3 38 = .ok (.aload_n 3, 1) := by decide +kernel
theorem d_VcopyOf3_39 : decode b_VcopyOf3 39 = .ok (.areturn, 1) := by decide +kernel
theorem d_Aget_0 : decode b_Aget 0 = .ok (.iload_n 1, 1) := by decide +kernel
theorem d_Aget_1 : decode b_Aget 1 = .ok (.aload_n 0, 1) := by decide +kernel
theorem d_Aget_2 : decode b_Aget 2 = .ok (.getfield 48, 3) := by decide +kernel
theorem d_Aget_5 : decode b_Aget 5 = .ok (.invokestatic 118, 3) := by decide +kernel
theorem d_Aget_8 : decode b_Aget 8 = .ok (.pop, 1) := by decide +kernel
theorem d_Aget_9 : decode b_Aget 9 = .ok (.aload_n 0, 1) := by decide +kernel
theorem d_Aget_10 : decode b_Aget 10 = .ok (.iload_n 1, 1) := by decide +kernel
theorem d_Aget_11 : decode b_Aget 11 = .ok (.invokevirtual 123, 3) := by decide +kernel
theorem d_Aget_14 : decode b_Aget 14 = .ok (.areturn, 1) := by decide +kernel
theorem d_OcheckIndex_0 : decode b_OcheckIndex 0 = .ok (.iload_n 0, 1) := by decide +kernel
theorem d_OcheckIndex_1 : decode b_OcheckIndex 1 = .ok (.iload_n 1, 1) := by decide +kernel
theorem d_OcheckIndex_2 : decode b_OcheckIndex 2 = .ok (.aconst_null, 1) := by decide +kernel
theorem d_OcheckIndex_3 : decode b_OcheckIndex 3 = .ok (.invokestatic 105, 3) := by decide +kernel
theorem d_OcheckIndex_6 : decode b_OcheckIndex 6 = .ok (.ireturn, 1) := by decide +kernel
theorem d_CcheckIndex_0 : decode b_CcheckIndex 0 = .ok (.iload_n 0, 1) := by decide +kernel
theorem d_CcheckIndex_1 : decode b_CcheckIndex 1 = .ok (.ifCond .lt 8, 3) := by decide +kernel
theorem d_CcheckIndex_4 : decode b_CcheckIndex 4 = .ok (.iload_n 0, 1) := by decide +kernel
theorem d_CcheckIndex_5 : decode b_CcheckIndex 5 = .ok (.iload_n 1, 1) := by decide +kernel
theorem d_CcheckIndex_6 : decode b_CcheckIndex 6 = .ok (.if_icmp .lt 10, 3) := by decide +kernel
theorem d_CcheckIndex_9 : decode b_CcheckIndex 9 = .ok (.aload_n 2, 1) := by decide +kernel
theorem d_CcheckIndex_10 : decode b_CcheckIndex 10 = .ok (.iload_n 0, 1) := by decide +kernel
theorem d_CcheckIndex_11 : decode b_CcheckIndex 11 = .ok (.iload_n 1, 1) := by decide +kernel
theorem d_CcheckIndex_12 : decode b_CcheckIndex 12 = .ok (.invokestatic 95, 3) := by decide +kernel
theorem d_CcheckIndex_15 : decode b_CcheckIndex 15 = .ok (.athrow, 1) := by decide +kernel
theorem d_CcheckIndex_16 : decode b_CcheckIndex 16 = .ok (.iload_n 0, 1) := by decide +kernel
theorem d_CcheckIndex_17 : decode b_CcheckIndex 17 = .ok (.ireturn, 1) := by decide +kernel
theorem d_AelementData_0 : decode b_AelementData 0 = .ok (.aload_n 0, 1) := by decide +kernel
theorem d_AelementData_1 : decode b_AelementData 1 = .ok (.getfield 9, 3) := by decide +kernel
theorem d_AelementData_4 : decode b_AelementData 4 = .ok (.iload_n 1, 1) := by decide +kernel
theorem d_AelementData_5 : decode b_AelementData 5 = .ok (.aaload, 1) := by decide +kernel
theorem d_AelementData_6 : decode b_AelementData 6 = .ok (.areturn, 1) := by decide +kernel
theorem d_Aremove_0 : decode b_Aremove 0 = .ok (.iload_n 1, 1) := by decide +kernel
theorem d_Aremove_1 : decode b_Aremove 1 = .ok (.aload_n 0, 1) := by decide +kernel
theorem d_Aremove_2 : decode b_Aremove 2 = .ok (.getfield 48, 3) := by decide +kernel
theorem d_Aremove_5 : decode b_Aremove 5 = .ok (.invokestatic 118, 3) := by decide +kernel
theorem d_Aremove_8 : decode b_Aremove 8 = .ok (.pop, 1) := by decide +kernel
theorem d_Aremove_9 : decode b_Aremove 9 = .ok (.aload_n 0, 1) := by decide +kernel
theorem d_Aremove_10 : decode b_Aremove 10 = .ok (.getfield 9, 3) := by decide +kernel
theorem d_Aremove_13 : decode b_Aremove 13 = .ok (.astore_n 2, 1) := by decide +kernel
theorem d_Aremove_14 : decode b_Aremove 14 = .ok (.aload_n 2, 1) := by decide +kernel
theorem d_Aremove_15 : decode b_Aremove 15 = .ok (.iload_n 1, 1) := by decide +kernel
theorem d_Aremove_16 : decode b_Aremove 16 = .ok (.aaload, 1) := by decide +kernel
theorem d_Aremove_17 : decode b_Aremove 17 = .ok (.astore_n 3, 1) := by decide +kernel
theorem d_Aremove_18 : decode b_Aremove 18 = .ok (.aload_n 0, 1) := by decide +kernel
theorem d_Aremove_19 : decode b_Aremove 19 = .ok (.aload_n 2, 1) := by decide +kernel
theorem d_Aremove_20 : decode b_Aremove 20 = .ok (.iload_n 1, 1) := by decide +kernel
theorem d_Aremove_21 : decode b_Aremove 21 = .ok (.invokevirtual 144, 3) := by decide +kernel
theorem d_Aremove_24 : decode b_Aremove 24 = .ok (.aload_n 3, 1) := by decide +kernel
theorem d_Aremove_25 : decode b_Aremove 25 = .ok (.areturn, 1) := by decide +kernel
theorem d_AfastRemove_0 : decode b_AfastRemove 0 = .ok (.aload_n 0, 1) := by decide +kernel
theorem d_AfastRemove_1 : decode b_AfastRemove 1 = .ok (.dup, 1) := by decide +kernel
theorem d_AfastRemove_2 : decode b_AfastRemove 2 = .ok (.getfield 63, 3) := by decide +kernel
theorem d_AfastRemove_5 : decode b_AfastRemove 5 = .ok (.iconst 1, 1) := by decide +kernel
theorem d_AfastRemove_6 : decode b_AfastRemove 6 = .ok (.iadd, 1) := by decide +kernel
theorem d_AfastRemove_7 : decode b_AfastRemove 7 = .ok (.putfield 63, 3) := by decide +kernel
theorem d_AfastRemove_10 : decode b_AfastRemove 10 = .ok (.aload_n 0, 1) := by decide +kernel
theorem d_AfastRemove_11 : decode b_AfastRemove 11 = .ok (.getfield 48, 3) := by decide +kernel
theorem d_AfastRemove_14 : decode b_AfastRemove 14 = .ok (.iconst 1, 1) := by decide +kernel
theorem d_AfastRemove_15 : decode b_AfastRemove 15 = .ok (.isub, 1) := by decide +kernel
theorem d_AfastRemove_16 : decode b_AfastRemove 16 = .ok (.dup, 1) := by decide +kernel
theorem d_AfastRemove_17 : decode b_AfastRemove 17 = .ok (.istore_n 3, 1) := by decide +kernel
theorem d_AfastRemove_18 : decode b_AfastRemove 18 = .ok (.iload_n 2, 1) := by decide +kernel
theorem d_AfastRemove_19 : decode b_AfastRemove 19 = .ok (.if_icmp .le 15, 3) := by decide +kernel
theorem d_AfastRemove_22 : decode b_AfastRemove 22 = .ok (.aload_n 1, 1) := by decide +kernel
theorem d_AfastRemove_23 : decode b_AfastRemove 23 = .ok (.iload_n 2, 1) := by decide +kernel
theorem d_AfastRemove_24 : decode b_AfastRemove 24 = .ok (.iconst 1, 1) := by decide +kernel
theorem d_AfastRemove_25 : decode b_AfastRemove 25 = .ok (.iadd, 1) := by decide +kernel
theorem d_AfastRemove_26 : decode b_AfastRemove 26 = .ok (.aload_n 1, 1) := by decide +kernel
theorem d_AfastRemove_27 : decode b_AfastRemove 27 = .ok (.iload_n 2, 1) := by decide +kernel
theorem d_AfastRemove_28 : decode b_AfastRemove 28 = .ok (.iload_n 3, 1) := by decide +kernel
theorem d_AfastRemove_29 : decode b_AfastRemove 29 = .ok (.iload_n 2, 1) := by decide +kernel
theorem d_AfastRemove_30 : decode b_AfastRemove 30 = .ok (.isub, 1) := by decide +kernel
theorem d_AfastRemove_31 : decode b_AfastRemove 31 = .ok (.invokestatic 112, 3) := by decide +kernel
theorem d_AfastRemove_34 : decode b_AfastRemove 34 = .ok (.aload_n 1, 1) := by decide +kernel
theorem d_AfastRemove_35 : decode b_AfastRemove 35 = .ok (.aload_n 0, 1) := by decide +kernel
theorem d_AfastRemove_36 : decode b_AfastRemove 36 = .ok (.iload_n 3, 1) := by decide +kernel
theorem d_AfastRemove_37 : decode b_AfastRemove 37 = .ok (.dup_x1, 1) := by decide +kernel
theorem d_AfastRemove_38 : decode b_AfastRemove 38 = .ok (.putfield 48, 3) := by decide +kernel
theorem d_AfastRemove_41 : decode b_AfastRemove 41 = .ok (.aconst_null, 1) := by decide +kernel
theorem d_AfastRemove_42 : decode b_AfastRemove 42 = .ok (.aastore, 1) := by decide +kernel
theorem d_AfastRemove_43 : decode b_AfastRemove 43 = .ok (.return_, 1) := by decide +kernel
theorem d_Aadd2_0 : decode b_Aadd2 0 = .ok (.aload_n 0, 1) := by decide +kernel
theorem d_Aadd2_1 : decode b_Aadd2 1 = .ok (.iload_n 1, 1) := by decide +kernel
theorem d_Aadd2_2 : decode b_Aadd2 2 = .ok (.invokevirtual 135, 3) := by decide +kernel
theorem d_Aadd2_5 : decode b_Aadd2 5 = .ok (.aload_n 0, 1) := by decide +kernel
theorem d_Aadd2_6 : decode b_Aadd2 6 = .ok (.dup, 1) := by decide +kernel
theorem d_Aadd2_7 : decode b_Aadd2 7 = .ok (.getfield 63, 3) := by decide +kernel
theorem d_Aadd2_10 : decode b_Aadd2 10 = .ok (.iconst 1, 1) := by decide +kernel
theorem d_Aadd2_11 : decode b_Aadd2 11 = .ok (.iadd, 1) := by decide +kernel
theorem d_Aadd2_12 : decode b_Aadd2 12 = .ok (.putfield 63, 3) := by decide +kernel
theorem d_Aadd2_15 : decode b_Aadd2 15 = .ok (.aload_n 0, 1) := by decide +kernel
theorem d_Aadd2_16 : decode b_Aadd2 16 = .ok (.getfield 48, 3) := by decide +kernel
theorem d_Aadd2_19 : decode b_Aadd2 19 = .ok (.dup, 1) := by decide +kernel
theorem d_Aadd2_20 : decode b_Aadd2 20 = .ok (.istore_n 3, 1) := by decide +kernel
theorem d_Aadd2_21 : decode b_Aadd2 21 = .ok (.aload_n 0, 1) := by decide +kernel
theorem d_Aadd2_22 : decode b_Aadd2 22 = .ok (.getfield 9, 3) := by decide +kernel
theorem d_Aadd2_25 : decode b_Aadd2 25 = .ok (.dup, 1) := by decide +kernel
theorem d_Aadd2_26 : decode b_Aadd2 26 = .ok (.astore 4, 2) := by decide +kernel
theorem d_Aadd2_28 : decode b_Aadd2 28 = .ok (.arraylength, 1) := by decide +kernel
theorem d_Aadd2_29 : decode b_Aadd2 29 = .ok (.if_icmp .ne 9, 3) := by decide +kernel
theorem d_Aadd2_32 : decode b_Aadd2 32 = .ok (.aload_n 0, 1) := by decide +kernel
theorem d_Aadd2_33 : decode b_Aadd2 33 = .ok (.invokevirtual 129, 3) := by decide +kernel
theorem d_Aadd2_36 : decode b_Aadd2 36 = .ok (.astore 4, 2) := by decide +kernel
theorem d_Aadd2_38 : decode b_Aadd2 38 = .ok (.aload 4, 2) := by decide +kernel
theorem d_Aadd2_40 : decode b_Aadd2 40 = .ok (.iload_n 1, 1) := by decide +kernel
theorem d_Aadd2_41 : decode b_Aadd2 41 = .ok (.aload 4, 2) := by decide +kernel
theorem d_Aadd2_43 : decode b_Aadd2 43 = .ok (.iload_n 1, 1) := by decide +kernel
theorem d_Aadd2_44 : decode b_Aadd2 44 = .ok (.iconst 1, 1) := by decide +kernel
theorem d_Aadd2_45 : decode b_Aadd2 45 = .ok (.iadd, 1) := by decide +kernel
theorem d_Aadd2_46 : decode b_Aadd2 46 = .ok (.iload_n 3, 1) := by decide +kernel
theorem d_Aadd2_47 : decode b_Aadd2 47 = .ok (.iload_n 1, 1) := by decide +kernel
theorem d_Aadd2_48 : decode b_Aadd2 48 = .ok (.isub, 1) := by decide +kernel
theorem d_Aadd2_49 : decode b_Aadd2 49 = .ok (.invokestatic 112, 3) := by decide +kernel
theorem d_Aadd2_52 : decode b_Aadd2 52 = .ok (.aload 4, 2) := by decide +kernel
theorem d_Aadd2_54 : decode b_Aadd2 54 = .ok (.iload_n 1, 1) := by decide +kernel
theorem d_Aadd2_55 : decode b_Aadd2 55 = .ok (.aload_n 2, 1) := by decide +kernel
theorem d_Aadd2_56 : decode b_Aadd2 56 = .ok (.aastore, 1) := by decide +kernel
theorem d_Aadd2_57 : decode b_Aadd2 57 = .ok (.aload_n 0, 1) := by decide +kernel
theorem d_Aadd2_58 : decode b_Aadd2 58 = .ok (.iload_n 3, 1) := by decide +kernel
theorem d_Aadd2_59 : decode b_Aadd2 59 = .ok (.iconst 1, 1) := by decide +kernel
theorem d_Aadd2_60 : decode b_Aadd2 60 = .ok (.iadd, 1) := by decide +kernel
theorem d_Aadd2_61 : decode b_Aadd2 61 = .ok (.putfield 48, 3) := by decide +kernel
theorem d_Aadd2_64 : decode b_Aadd2 64 = .ok (.return_, 1) := by decide +kernel
theorem d_ArangeCheckForAdd_0 : decode b_ArangeCheckForAdd 0 = .ok (.iload_n 1, 1) := by decide +kernel
theorem d_ArangeCheckForAdd_1 : decode b_ArangeCheckForAdd 1 = .ok (.aload_n 0, 1) := by decide +kernel
theorem d_ArangeCheckForAdd_2 : decode b_ArangeCheckForAdd 2 = .ok (.getfield 48, 3) := by decide +kernel
theorem d_ArangeCheckForAdd_5 : decode b_ArangeCheckForAdd 5 = .ok (.if_icmp .gt 7, 3) := by decide +kernel
theorem d_ArangeCheckForAdd_8 : decode b_ArangeCheckForAdd 8 = .ok (.iload_n 1, 1) := by decide +kernel
theorem d_ArangeCheckForAdd_9 : decode b_ArangeCheckForAdd 9 = .ok (.ifCond .ge 16, 3) := by decide +kernel
theorem d_ArangeCheckForAdd_12 : decode b_ArangeCheckForAdd 12 = .ok (.new 187, 3) := by decide +kernel
theorem d_ArangeCheckForAdd_15 : decode b_ArangeCheckForAdd 15 = .ok (.dup, 1) := by decide +kernel
theorem d_ArangeCheckForAdd_16 : decode b_ArangeCheckForAdd 16 = .ok (.aload_n 0, 1) := by decide +kernel
theorem d_ArangeCheckForAdd_17 : decode b_ArangeCheckForAdd 17 = .ok (.iload_n 1, 1) := by decide +kernel
theorem d_ArangeCheckForAdd_18 : decode b_ArangeCheckForAdd 18 = .ok (.invokevirtual 198, 3) := by decide +kernel
theorem d_ArangeCheckForAdd_21 : decode b_ArangeCheckForAdd 21 = .ok (.invokespecial 193, 3) := by decide +kernel
theorem d_ArangeCheckForAdd_24 : decode b_ArangeCheckForAdd 24 = .ok (.athrow, 1) := by decide +kernel
theorem d_ArangeCheckForAdd_25 : decode b_ArangeCheckForAdd 25 = .ok (.return_, 1) := by decide +kernel
theorem d_Aiterator_0 : decode b_Aiterator 0 = .ok (.new 267, 3) := by decide +kernel
theorem d_Aiterator_3 : decode b_Aiterator 3 = .ok (.dup, 1) := by decide +kernel
theorem d_Aiterator_4 : decode b_Aiterator 4 = .ok (.aload_n 0, 1) := by decide +kernel
theorem d_Aiterator_5 : decode b_Aiterator 5 = .ok (.invokespecial 269, 3) := by decide +kernel
theorem d_Aiterator_8 : decode b_Aiterator 8 = .ok (.areturn, 1) := by decide +kernel
theorem d_Iinit_0 : decode b_Iinit 0 = .ok (.aload_n 0, 1) := by decide +kernel
theorem d_Iinit_1 : decode b_Iinit 1 = .ok (.aload_n 1, 1) := by decide +kernel
theorem d_Iinit_2 : decode b_Iinit 2 = .ok (.putfield 1, 3) := by decide +kernel
theorem d_Iinit_5 : decode b_Iinit 5 = .ok (.aload_n 0, 1) := by decide +kernel
theorem d_Iinit_6 : decode b_Iinit 6 = .ok (.invokespecial 7, 3) := by decide +kernel
theorem d_Iinit_9 : decode b_Iinit 9 = .ok (.aload_n 0, 1) := by decide +kernel
theorem d_Iinit_10 : decode b_Iinit 10 = .ok (.iconst (-1), 1) := by decide +kernel
theorem d_Iinit_11 : decode b_Iinit 11 = .ok (.putfield 13, 3) := by decide +kernel
theorem d_Iinit_14 : decode b_Iinit 14 = .ok (.aload_n 0, 1) := by decide +kernel
theorem d_Iinit_15 : decode b_Iinit 15 = .ok (.aload_n 0, 1) := by decide +kernel
theorem d_Iinit_16 : decode b_Iinit 16 = .ok (.getfield 1, 3) := by decide +kernel
theorem d_Iinit_19 : decode b_Iinit 19 = .ok (.getfield 17, 3) := by decide +kernel
theorem d_Iinit_22 : decode b_Iinit 22 = .ok (.putfield 22, 3) := by decide +kernel
theorem d_Iinit_25 : decode b_Iinit 25 = .ok (.return_, 1) := by decide +kernel
theorem d_IhasNext_0 : decode b_IhasNext 0 = .ok (.aload_n 0, 1) := by decide +kernel
theorem d_IhasNext_1 : decode b_IhasNext 1 = .ok (.getfield 25, 3) := by decide +kernel
theorem d_IhasNext_4 : decode b_IhasNext 4 = .ok (.aload_n 0, 1) := by decide +kernel
theorem d_IhasNext_5 : decode b_IhasNext 5 = .ok (.getfield 1, 3) := by decide +kernel
theorem d_IhasNext_8 : decode b_IhasNext 8 = .ok (.getfield 28, 3) := by decide +kernel
theorem d_IhasNext_11 : decode b_IhasNext 11 = .ok (.if_icmp .eq 7, 3) := by decide +kernel
theorem d_IhasNext_14 : decode b_IhasNext 14 = .ok (.iconst 1, 1) := by decide +kernel
theorem d_IhasNext_15 : decode b_IhasNext 15 = .ok (.goto 4, 3) := by decide +kernel
theorem d_IhasNext_18 : decode b_IhasNext 18 = .ok (.iconst 0, 1) := by decide +kernel
theorem d_IhasNext_19 : decode b_IhasNext 19 = .ok (.ireturn, 1) := by decide +kernel
theorem d_Inext_0 : decode b_Inext 0 = .ok (.aload_n 0, 1) := by decide +kernel
theorem d_Inext_1 : decode b_Inext 1 = .ok (.invokevirtual 31, 3) := by decide +kernel
theorem d_Inext_4 : decode b_Inext 4 = .ok (.aload_n 0, 1) := by decide +kernel
theorem d_Inext_5 : decode b_Inext 5 = .ok (.getfield 25, 3) := by decide +kernel
theorem d_Inext_8 : decode b_Inext 8 = .ok (.istore_n 1, 1) := by decide +kernel
theorem d_Inext_9 : decode b_Inext 9 = .ok (.iload_n 1, 1) := by decide +kernel
theorem d_Inext_10 : decode b_Inext 10 = .ok (.aload_n 0, 1) := by decide +kernel
theorem d_Inext_11 : decode b_Inext 11 = .ok (.getfield 1, 3) := by decide +kernel
theorem d_Inext_14 : decode b_Inext 14 = .ok (.getfield 28, 3) := by decide +kernel
theorem d_Inext_17 : decode b_Inext 17 = .ok (.if_icmp .lt 11, 3) := by decide +kernel
theorem d_Inext_20 : decode b_Inext 20 = .ok (.new 34, 3) := by decide +kernel
theorem d_Inext_23 : decode b_Inext 23 = .ok (.dup, 1) := by decide +kernel
theorem d_Inext_24 : decode b_Inext 24 = .ok (.invokespecial 36, 3) := by decide +kernel
theorem d_Inext_27 : decode b_Inext 27 = .ok (.athrow, 1) := by decide +kernel
theorem d_Inext_28 : decode b_Inext 28 = .ok (.aload_n 0, 1) := by decide +kernel
theorem d_Inext_29 : decode b_Inext 29 = .ok (.getfield 1, 3) := by decide +kernel
theorem d_Inext_32 : decode b_Inext 32 = .ok (.getfield 37, 3) := by decide +kernel
theorem d_Inext_35 : decode b_Inext 35 = .ok (.astore_n 2, 1) := by decide +kernel
theorem d_Inext_36 : decode b_Inext 36 = .ok (.iload_n 1, 1) := by decide +kernel
theorem d_Inext_37 : decode b_Inext 37 = .ok (.aload_n 2, 1) := by decide +kernel
theorem d_Inext_38 : decode b_Inext 38 = .ok (.arraylength, 1) := by decide +kernel
theorem d_Inext_39 : decode b_Inext 39 = .ok (.if_icmp .lt 11, 3) := by decide +kernel
theorem d_Inext_42 : decode b_Inext 42 = .ok (.new 41, 3) := by decide +kernel
theorem d_Inext_45 : decode b_Inext 45 = .ok (.dup, 1) := by decide +kernel
theorem d_Inext_46 : decode b_Inext 46 = .ok (.invokespecial 43, 3) := by decide +kernel
theorem d_Inext_49 : decode b_Inext 49 = .ok (.athrow, 1) := by decide +kernel
theorem d_Inext_50 : decode b_Inext 50 = .ok (.aload_n 0, 1) := by decide +kernel
theorem d_Inext_51 : decode b_Inext 51 = .ok (.iload_n 1, 1) := by decide +kernel
theorem d_Inext_52 : decode b_Inext 52 = .ok (.iconst 1, 1) := by decide +kernel
theorem d_Inext_53 : decode b_Inext 53 = .ok (.iadd, 1) := by decide +kernel
theorem d_Inext_54 : decode b_Inext 54 = .ok (.putfield 25, 3) := by decide +kernel
theorem d_Inext_57 : decode b_Inext 57 = .ok (.aload_n 2, 1) := by decide +kernel
theorem d_Inext_58 : decode b_Inext 58 = .ok (.aload_n 0, 1) := by decide +kernel
theorem d_Inext_59 : decode b_Inext 59 = .ok (.iload_n 1, 1) := by decide +kernel
theorem d_Inext_60 : decode b_Inext 60 = .ok (.dup_x1, 1) := by decide +kernel
theorem d_Inext_61 : decode b_Inext 61 = .ok (.putfield 13, 3) := by decide +kernel
theorem d_Inext_64 : decode b_Inext 64 = .ok (.aaload, 1) := by decide +kernel
theorem d_Inext_65 : decode b_Inext 65 = .ok (.areturn, 1) := by decide +kernel
theorem d_IcheckForComodification_0 : decode b_IcheckForComodification 0 = .ok (.aload_n 0, 1) := by decide +kernel
theorem d_IcheckForComodification_1 : decode b_IcheckForComodification 1 = .ok (.getfield 1, 3) := by decide +kernel
theorem d_IcheckForComodification_4 : decode b_IcheckForComodification 4 = .ok (.getfield 17, 3) := by decide +kernel
theorem d_IcheckForComodification_7 : decode b_IcheckForComodification 7 = .ok (.aload_n 0, 1) := by decide +kernel
theorem d_IcheckForComodification_8 : decode b_IcheckForComodification 8 = .ok (.getfield 22, 3) := by decide +kernel
theorem d_IcheckForComodification_11 : decode b_IcheckForComodification 11 = .ok (.if_icmp .eq 11, 3) := by decide +kernel
theorem d_IcheckForComodification_14 : decode b_IcheckForComodification 14 = .ok (.new 41, 3) := by decide +kernel
theorem d_IcheckForComodification_17 : decode b_IcheckForComodification 17 = .ok (.dup, 1) := by decide +kernel
theorem d_IcheckForComodification_18 : decode b_IcheckForComodification 18 = .ok (.invokespecial 43, 3) := by decide +kernel
theorem d_IcheckForComodification_21 : decode b_IcheckForComodification 21 = .ok (.athrow, 1) := by decide +kernel
theorem d_IcheckForComodification_22 : decode b_IcheckForComodification 22 = .ok (.return_, 1) := by decide +kernel
