theorem d_Binit_0 : decode b_Binit 0 = .ok (.aload_n 0, 1) := by decide +kernel
theorem d_Binit_1 : decode b_Binit 1 = .ok (.invokespecial 1, 3) := by decide +kernel
theorem d_Binit_4 : decode b_Binit 4 = .ok (.aload_n 0, 1) := by decide +kernel
theorem d_Binit_5 : decode b_Binit 5 = .ok (.new 7, 3) := by decide +kernel
theorem d_Binit_8 : decode b_Binit 8 = .ok (.dup, 1) := by decide +kernel
theorem d_Binit_9 : decode b_Binit 9 = .ok (.invokespecial 9, 3) := by decide +kernel
theorem d_Binit_12 : decode b_Binit 12 = .ok (.putfield 10, 3) := by decide +kernel
theorem d_Binit_15 : decode b_Binit 15 = .ok (.aload_n 0, 1) := by decide +kernel
theorem d_Binit_16 : decode b_Binit 16 = .ok (.iconst 4, 1) := by decide +kernel
theorem d_Binit_17 : decode b_Binit 17 = .ok (.anewarray 16, 3) := by decide +kernel
theorem d_Binit_20 : decode b_Binit 20 = .ok (.putfield 18, 3) := by decide +kernel
theorem d_Binit_23 : decode b_Binit 23 = .ok (.aload_n 0, 1) := by decide +kernel
theorem d_Binit_24 : decode b_Binit 24 = .ok (.sipush 301, 3) := by decide +kernel
theorem d_Binit_27 : decode b_Binit 27 = .ok (.newarray .boolean, 2) := by decide +kernel
theorem d_Binit_29 : decode b_Binit 29 = .ok (.putfield 22, 3) := by decide +kernel
theorem d_Binit_32 : decode b_Binit 32 = .ok (.aload_n 0, 1) := by decide +kernel
theorem d_Binit_33 : decode b_Binit 33 = .ok (.iconst 1, 1) := by decide +kernel
theorem d_Binit_34 : decode b_Binit 34 = .ok (.putfield 26, 3) := by decide +kernel
theorem d_Binit_37 : decode b_Binit 37 = .ok (.iconst 0, 1) := by decide +kernel
theorem d_Binit_38 : decode b_Binit 38 = .ok (.istore_n 1, 1) := by decide +kernel
theorem d_Binit_39 : decode b_Binit 39 = .ok (.iload_n 1, 1) := by decide +kernel
theorem d_Binit_40 : decode b_Binit 40 = .ok (.iconst 4, 1) := by decide +kernel
theorem d_Binit_41 : decode b_Binit 41 = .ok (.if_icmp .ge 23, 3) := by decide +kernel
theorem d_Binit_44 : decode b_Binit 44 = .ok (.aload_n 0, 1) := by decide +kernel
theorem d_Binit_45 : decode b_Binit 45 = .ok (.getfield 18, 3) := by decide +kernel
theorem d_Binit_48 : decode b_Binit 48 = .ok (.iload_n 1, 1) := by decide +kernel
theorem d_Binit_49 : decode b_Binit 49 = .ok (.new 16, 3) := by decide +kernel
theorem d_Binit_52 : decode b_Binit 52 = .ok (.dup, 1) := by decide +kernel
theorem d_Binit_53 : decode b_Binit 53 = .ok (.iload_n 1, 1) := by decide +kernel
theorem d_Binit_54 : decode b_Binit 54 = .ok (.invokespecial 30, 3) := by decide +kernel
theorem d_Binit_57 : decode b_Binit 57 = .ok (.aastore, 1) := by decide +kernel
theorem d_Binit_58 : decode b_Binit 58 = .ok (.iinc 1 1, 3) := by decide +kernel
theorem d_Binit_61 : decode b_Binit 61 = .ok (.goto (-22), 3) := by decide +kernel
theorem d_Binit_64 : decode b_Binit 64 = .ok (.return_, 1) := by decide +kernel
theorem d_Tinit_0 : decode b_Tinit 0 = .ok (.aload_n 0, 1) := by decide +kernel
theorem d_Tinit_1 : decode b_Tinit 1 = .ok (.invokespecial 3, 3) := by decide +kernel
theorem d_Tinit_4 : decode b_Tinit 4 = .ok (.aload_n 0, 1) := by decide +kernel
theorem d_Tinit_5 : decode b_Tinit 5 = .ok (.bipush 40, 2) := by decide +kernel
theorem d_Tinit_7 : decode b_Tinit 7 = .ok (.anewarray 9, 3) := by decide +kernel
theorem d_Tinit_10 : decode b_Tinit 10 = .ok (.putfield 11, 3) := by decide +kernel
theorem d_Tinit_13 : decode b_Tinit 13 = .ok (.aload_n 0, 1) := by decide +kernel
theorem d_Tinit_14 : decode b_Tinit 14 = .ok (.new 9, 3) := by decide +kernel
theorem d_Tinit_17 : decode b_Tinit 17 = .ok (.dup, 1) := by decide +kernel
theorem d_Tinit_18 : decode b_Tinit 18 = .ok (.iconst (-1), 1) := by decide +kernel
theorem d_Tinit_19 : decode b_Tinit 19 = .ok (.invokespecial 17, 3) := by decide +kernel
theorem d_Tinit_22 : decode b_Tinit 22 = .ok (.putfield 20, 3) := by decide +kernel
theorem d_Tinit_25 : decode b_Tinit 25 = .ok (.aload_n 0, 1) := by decide +kernel
theorem d_Tinit_26 : decode b_Tinit 26 = .ok (.new 24, 3) := by decide +kernel
theorem d_Tinit_29 : decode b_Tinit 29 = .ok (.dup, 1) := by decide +kernel
theorem d_Tinit_30 : decode b_Tinit 30 = .ok (.invokespecial 26, 3) := by decide +kernel
theorem d_Tinit_33 : decode b_Tinit 33 = .ok (.putfield 27, 3) := by decide +kernel
theorem d_Tinit_36 : decode b_Tinit 36 = .ok (.aload_n 0, 1) := by decide +kernel
theorem d_Tinit_37 : decode b_Tinit 37 = .ok (.sipush 301, 3) := by decide +kernel
theorem d_Tinit_40 : decode b_Tinit 40 = .ok (.anewarray 31, 3) := by decide +kernel
theorem d_Tinit_43 : decode b_Tinit 43 = .ok (.putfield 33, 3) := by decide +kernel
theorem d_Tinit_46 : decode b_Tinit 46 = .ok (.aload_n 0, 1) := by decide +kernel
theorem d_Tinit_47 : decode b_Tinit 47 = .ok (.sipush 301, 3) := by decide +kernel
theorem d_Tinit_50 : decode b_Tinit 50 = .ok (.newarray .boolean, 2) := by decide +kernel
theorem d_Tinit_52 : decode b_Tinit 52 = .ok (.putfield 37, 3) := by decide +kernel
theorem d_Tinit_55 : decode b_Tinit 55 = .ok (.aload_n 0, 1) := by decide +kernel
theorem d_Tinit_56 : decode b_Tinit 56 = .ok (.iload_n 1, 1) := by decide +kernel
theorem d_Tinit_57 : decode b_Tinit 57 = .ok (.putfield 41, 3) := by decide +kernel
theorem d_Tinit_60 : decode b_Tinit 60 = .ok (.iconst 0, 1) := by decide +kernel
theorem d_Tinit_61 : decode b_Tinit 61 = .ok (.istore_n 2, 1) := by decide +kernel
theorem d_Tinit_62 : decode b_Tinit 62 = .ok (.iload_n 2, 1) := by decide +kernel
theorem d_Tinit_63 : decode b_Tinit 63 = .ok (.bipush 40, 2) := by decide +kernel
theorem d_Tinit_65 : decode b_Tinit 65 = .ok (.if_icmp .ge 23, 3) := by decide +kernel
theorem d_Tinit_68 : decode b_Tinit 68 = .ok (.aload_n 0, 1) := by decide +kernel
theorem d_Tinit_69 : decode b_Tinit 69 = .ok (.getfield 11, 3) := by decide +kernel
theorem d_Tinit_72 : decode b_Tinit 72 = .ok (.iload_n 2, 1) := by decide +kernel
theorem d_Tinit_73 : decode b_Tinit 73 = .ok (.new 9, 3) := by decide +kernel
theorem d_Tinit_76 : decode b_Tinit 76 = .ok (.dup, 1) := by decide +kernel
theorem d_Tinit_77 : decode b_Tinit 77 = .ok (.iload_n 2, 1) := by decide +kernel
theorem d_Tinit_78 : decode b_Tinit 78 = .ok (.invokespecial 17, 3) := by decide +kernel
theorem d_Tinit_81 : decode b_Tinit 81 = .ok (.aastore, 1) := by decide +kernel
theorem d_Tinit_82 : decode b_Tinit 82 = .ok (.iinc 2 1, 3) := by decide +kernel
theorem d_Tinit_85 : decode b_Tinit 85 = .ok (.goto (-23), 3) := by decide +kernel
theorem d_Tinit_88 : decode b_Tinit 88 = .ok (.aload_n 0, 1) := by decide +kernel
theorem d_Tinit_89 : decode b_Tinit 89 = .ok (.getfield 11, 3) := by decide +kernel
theorem d_Tinit_92 : decode b_Tinit 92 = .ok (.iconst 0, 1) := by decide +kernel
theorem d_Tinit_93 : decode b_Tinit 93 = .ok (.aaload, 1) := by decide +kernel
theorem d_Tinit_94 : decode b_Tinit 94 = .ok (.iconst 1, 1) := by decide +kernel
theorem d_Tinit_95 : decode b_Tinit 95 = .ok (.putfield 45, 3) := by decide +kernel
theorem d_Tinit_98 : decode b_Tinit 98 = .ok (.return_, 1) := by decide +kernel
theorem d_Pinit_0 : decode b_Pinit 0 = .ok (.aload_n 0, 1) := by decide +kernel
theorem d_Pinit_1 : decode b_Pinit 1 = .ok (.invokespecial 1, 3) := by decide +kernel
theorem d_Pinit_4 : decode b_Pinit 4 = .ok (.aload_n 0, 1) := by decide +kernel
theorem d_Pinit_5 : decode b_Pinit 5 = .ok (.new 7, 3) := by decide +kernel
theorem d_Pinit_8 : decode b_Pinit 8 = .ok (.dup, 1) := by decide +kernel
theorem d_Pinit_9 : decode b_Pinit 9 = .ok (.invokespecial 9, 3) := by decide +kernel
theorem d_Pinit_12 : decode b_Pinit 12 = .ok (.putfield 10, 3) := by decide +kernel
theorem d_Pinit_15 : decode b_Pinit 15 = .ok (.aload_n 0, 1) := by decide +kernel
theorem d_Pinit_16 : decode b_Pinit 16 = .ok (.iload_n 1, 1) := by decide +kernel
theorem d_Pinit_17 : decode b_Pinit 17 = .ok (.putfield 16, 3) := by decide +kernel
theorem d_Pinit_20 : decode b_Pinit 20 = .ok (.return_, 1) := by decide +kernel
theorem d_Bmake_0 : decode b_Bmake 0 = .ok (.iload_n 1, 1) := by decide +kernel
theorem d_Bmake_1 : decode b_Bmake 1 = .ok (.iconst 4, 1) := by decide +kernel
theorem d_Bmake_2 : decode b_Bmake 2 = .ok (.invokestatic 56, 3) := by decide +kernel
theorem d_Bmake_5 : decode b_Bmake 5 = .ok (.ifCond .eq 25, 3) := by decide +kernel
theorem d_Bmake_8 : decode b_Bmake 8 = .ok (.aload_n 0, 1) := by decide +kernel
theorem d_Bmake_9 : decode b_Bmake 9 = .ok (.getfield 26, 3) := by decide +kernel
theorem d_Bmake_12 : decode b_Bmake 12 = .ok (.bipush 40, 2) := by decide +kernel
theorem d_Bmake_14 : decode b_Bmake 14 = .ok (.if_icmp .eq 16, 3) := by decide +kernel
theorem d_Bmake_17 : decode b_Bmake 17 = .ok (.aload_n 0, 1) := by decide +kernel
theorem d_Bmake_18 : decode b_Bmake 18 = .ok (.getfield 10, 3) := by decide +kernel
theorem d_Bmake_21 : decode b_Bmake 21 = .ok (.invokevirtual 33, 3) := by decide +kernel
theorem d_Bmake_24 : decode b_Bmake 24 = .ok (.sipush 300, 3) := by decide +kernel
theorem d_Bmake_27 : decode b_Bmake 27 = .ok (.if_icmp .ne 5, 3) := by decide +kernel
theorem d_Bmake_30 : decode b_Bmake 30 = .ok (.iconst (-1), 1) := by decide +kernel
theorem d_Bmake_31 : decode b_Bmake 31 = .ok (.ireturn, 1) := by decide +kernel
theorem d_Bmake_32 : decode b_Bmake 32 = .ok (.aload_n 0, 1) := by decide +kernel
theorem d_Bmake_33 : decode b_Bmake 33 = .ok (.iload_n 1, 1) := by decide +kernel
theorem d_Bmake_34 : decode b_Bmake 34 = .ok (.iconst 0, 1) := by decide +kernel
theorem d_Bmake_35 : decode b_Bmake 35 = .ok (.aload_n 0, 1) := by decide +kernel
theorem d_Bmake_36 : decode b_Bmake 36 = .ok (.getfield 26, 3) := by decide +kernel
theorem d_Bmake_39 : decode b_Bmake 39 = .ok (.iconst (-1), 1) := by decide +kernel
theorem d_Bmake_40 : decode b_Bmake 40 = .ok (.iconst (-1), 1) := by decide +kernel
theorem d_Bmake_41 : decode b_Bmake 41 = .ok (.invokevirtual 60, 3) := by decide +kernel
theorem d_Bmake_44 : decode b_Bmake 44 = .ok (.pop, 1) := by decide +kernel
theorem d_Bmake_45 : decode b_Bmake 45 = .ok (.aload_n 0, 1) := by decide +kernel
theorem d_Bmake_46 : decode b_Bmake 46 = .ok (.dup, 1) := by decide +kernel
theorem d_Bmake_47 : decode b_Bmake 47 = .ok (.getfield 26, 3) := by decide +kernel
theorem d_Bmake_50 : decode b_Bmake 50 = .ok (.iconst 1, 1) := by decide +kernel
theorem d_Bmake_51 : decode b_Bmake 51 = .ok (.iadd, 1) := by decide +kernel
theorem d_Bmake_52 : decode b_Bmake 52 = .ok (.putfield 26, 3) := by decide +kernel
theorem d_Bmake_55 : decode b_Bmake 55 = .ok (.aload_n 0, 1) := by decide +kernel
theorem d_Bmake_56 : decode b_Bmake 56 = .ok (.getfield 26, 3) := by decide +kernel
theorem d_Bmake_59 : decode b_Bmake 59 = .ok (.iconst 1, 1) := by decide +kernel
theorem d_Bmake_60 : decode b_Bmake 60 = .ok (.isub, 1) := by decide +kernel
theorem d_Bmake_61 : decode b_Bmake 61 = .ok (.ireturn, 1) := by decide +kernel
theorem d_BisIn_0 : decode b_BisIn 0 = .ok (.iload_n 0, 1) := by decide +kernel
theorem d_BisIn_1 : decode b_BisIn 1 = .ok (.ifCond .lt 12, 3) := by decide +kernel
theorem d_BisIn_4 : decode b_BisIn 4 = .ok (.iload_n 0, 1) := by decide +kernel
theorem d_BisIn_5 : decode b_BisIn 5 = .ok (.iload_n 1, 1) := by decide +kernel
theorem d_BisIn_6 : decode b_BisIn 6 = .ok (.if_icmp .ge 7, 3) := by decide +kernel
theorem d_BisIn_9 : decode b_BisIn 9 = .ok (.iconst 1, 1) := by decide +kernel
theorem d_BisIn_10 : decode b_BisIn 10 = .ok (.goto 4, 3) := by decide +kernel
theorem d_BisIn_13 : decode b_BisIn 13 = .ok (.iconst 0, 1) := by decide +kernel
theorem d_BisIn_14 : decode b_BisIn 14 = .ok (.ireturn, 1) := by decide +kernel
theorem d_Badd_0 : decode b_Badd 0 = .ok (.new 37, 3) := by decide +kernel
theorem d_Badd_3 : decode b_Badd 3 = .ok (.dup, 1) := by decide +kernel
theorem d_Badd_4 : decode b_Badd 4 = .ok (.aload_n 0, 1) := by decide +kernel
theorem d_Badd_5 : decode b_Badd 5 = .ok (.getfield 10, 3) := by decide +kernel
theorem d_Badd_8 : decode b_Badd 8 = .ok (.invokevirtual 33, 3) := by decide +kernel
theorem d_Badd_11 : decode b_Badd 11 = .ok (.iconst 1, 1) := by decide +kernel
theorem d_Badd_12 : decode b_Badd 12 = .ok (.iadd, 1) := by decide +kernel
theorem d_Badd_13 : decode b_Badd 13 = .ok (.iload_n 1, 1) := by decide +kernel
theorem d_Badd_14 : decode b_Badd 14 = .ok (.aload_n 0, 1) := by decide +kernel
theorem d_Badd_15 : decode b_Badd 15 = .ok (.getfield 18, 3) := by decide +kernel
theorem d_Badd_18 : decode b_Badd 18 = .ok (.iload_n 1, 1) := by decide +kernel
theorem d_Badd_19 : decode b_Badd 19 = .ok (.aaload, 1) := by decide +kernel
theorem d_Badd_20 : decode b_Badd 20 = .ok (.getfield 39, 3) := by decide +kernel
theorem d_Badd_23 : decode b_Badd 23 = .ok (.iconst 1, 1) := by decide +kernel
theorem d_Badd_24 : decode b_Badd 24 = .ok (.iadd, 1) := by decide +kernel
theorem d_Badd_25 : decode b_Badd 25 = .ok (.iload_n 2, 1) := by decide +kernel
theorem d_Badd_26 : decode b_Badd 26 = .ok (.iload_n 3, 1) := by decide +kernel
theorem d_Badd_27 : decode b_Badd 27 = .ok (.iload 4, 2) := by decide +kernel
theorem d_Badd_29 : decode b_Badd 29 = .ok (.iload 5, 2) := by decide +kernel
theorem d_Badd_31 : decode b_Badd 31 = .ok (.invokespecial 42, 3) := by decide +kernel
theorem d_Badd_34 : decode b_Badd 34 = .ok (.astore 6, 2) := by decide +kernel
theorem d_Badd_36 : decode b_Badd 36 = .ok (.aload_n 0, 1) := by decide +kernel
theorem d_Badd_37 : decode b_Badd 37 = .ok (.getfield 10, 3) := by decide +kernel
theorem d_Badd_40 : decode b_Badd 40 = .ok (.aload 6, 2) := by decide +kernel
theorem d_Badd_42 : decode b_Badd 42 = .ok (.invokevirtual 45, 3) := by decide +kernel
theorem d_Badd_45 : decode b_Badd 45 = .ok (.pop, 1) := by decide +kernel
theorem d_Badd_46 : decode b_Badd 46 = .ok (.aload_n 0, 1) := by decide +kernel
theorem d_Badd_47 : decode b_Badd 47 = .ok (.getfield 18, 3) := by decide +kernel
theorem d_Badd_50 : decode b_Badd 50 = .ok (.iload_n 1, 1) := by decide +kernel
theorem d_Badd_51 : decode b_Badd 51 = .ok (.aaload, 1) := by decide +kernel
theorem d_Badd_52 : decode b_Badd 52 = .ok (.aload 6, 2) := by decide +kernel
theorem d_Badd_54 : decode b_Badd 54 = .ok (.invokevirtual 49, 3) := by decide +kernel
theorem d_Badd_57 : decode b_Badd 57 = .ok (.aload 6, 2) := by decide +kernel
theorem d_Badd_59 : decode b_Badd 59 = .ok (.invokevirtual 53, 3) := by decide +kernel
theorem d_Badd_62 : decode b_Badd 62 = .ok (.ireturn, 1) := by decide +kernel
theorem d_Rinit_0 : decode b_Rinit 0 = .ok (.aload_n 0, 1) := by decide +kernel
theorem d_Rinit_1 : decode b_Rinit 1 = .ok (.invokespecial 1, 3) := by decide +kernel
theorem d_Rinit_4 : decode b_Rinit 4 = .ok (.aload_n 0, 1) := by decide +kernel
theorem d_Rinit_5 : decode b_Rinit 5 = .ok (.iload_n 1, 1) := by decide +kernel
theorem d_Rinit_6 : decode b_Rinit 6 = .ok (.putfield 7, 3) := by decide +kernel
theorem d_Rinit_9 : decode b_Rinit 9 = .ok (.aload_n 0, 1) := by decide +kernel
theorem d_Rinit_10 : decode b_Rinit 10 = .ok (.iload_n 2, 1) := by decide +kernel
theorem d_Rinit_11 : decode b_Rinit 11 = .ok (.putfield 13, 3) := by decide +kernel
theorem d_Rinit_14 : decode b_Rinit 14 = .ok (.aload_n 0, 1) := by decide +kernel
theorem d_Rinit_15 : decode b_Rinit 15 = .ok (.iload_n 3, 1) := by decide +kernel
theorem d_Rinit_16 : decode b_Rinit 16 = .ok (.putfield 16, 3) := by decide +kernel
theorem d_Rinit_19 : decode b_Rinit 19 = .ok (.aload_n 0, 1) := by decide +kernel
theorem d_Rinit_20 : decode b_Rinit 20 = .ok (.iload 4, 2) := by decide +kernel
theorem d_Rinit_22 : decode b_Rinit 22 = .ok (.putfield 19, 3) := by decide +kernel
theorem d_Rinit_25 : decode b_Rinit 25 = .ok (.aload_n 0, 1) := by decide +kernel
theorem d_Rinit_26 : decode b_Rinit 26 = .ok (.iload 5, 2) := by decide +kernel
theorem d_Rinit_28 : decode b_Rinit 28 = .ok (.putfield 22, 3) := by decide +kernel
theorem d_Rinit_31 : decode b_Rinit 31 = .ok (.aload_n 0, 1) := by decide +kernel
theorem d_Rinit_32 : decode b_Rinit 32 = .ok (.iload 6, 2) := by decide +kernel
theorem d_Rinit_34 : decode b_Rinit 34 = .ok (.putfield 25, 3) := by decide +kernel
theorem d_Rinit_37 : decode b_Rinit 37 = .ok (.aload_n 0, 1) := by decide +kernel
theorem d_Rinit_38 : decode b_Rinit 38 = .ok (.iload 7, 2) := by decide +kernel
theorem d_Rinit_40 : decode b_Rinit 40 = .ok (.putfield 28, 3) := by decide +kernel
theorem d_Rinit_43 : decode b_Rinit 43 = .ok (.return_, 1) := by decide +kernel
theorem d_Tlearn_0 : decode b_Tlearn 0 = .ok (.aload_n 0, 1) := by decide +kernel
theorem d_Tlearn_1 : decode b_Tlearn 1 = .ok (.dup, 1) := by decide +kernel
theorem d_Tlearn_2 : decode b_Tlearn 2 = .ok (.getfield 168, 3) := by decide +kernel
theorem d_Tlearn_5 : decode b_Tlearn 5 = .ok (.iconst 1, 1) := by decide +kernel
theorem d_Tlearn_6 : decode b_Tlearn 6 = .ok (.iadd, 1) := by decide +kernel
theorem d_Tlearn_7 : decode b_Tlearn 7 = .ok (.putfield 168, 3) := by decide +kernel
theorem d_Tlearn_10 : decode b_Tlearn 10 = .ok (.aload_n 0, 1) := by decide +kernel
theorem d_Tlearn_11 : decode b_Tlearn 11 = .ok (.aload_n 0, 1) := by decide +kernel
theorem d_Tlearn_12 : decode b_Tlearn 12 = .ok (.getfield 171, 3) := by decide +kernel
theorem d_Tlearn_15 : decode b_Tlearn 15 = .ok (.aload_n 1, 1) := by decide +kernel
theorem d_Tlearn_16 : decode b_Tlearn 16 = .ok (.invokevirtual 174, 3) := by decide +kernel
theorem d_Tlearn_19 : decode b_Tlearn 19 = .ok (.invokestatic 176, 3) := by decide +kernel
theorem d_Tlearn_22 : decode b_Tlearn 22 = .ok (.putfield 171, 3) := by decide +kernel
theorem d_Tlearn_25 : decode b_Tlearn 25 = .ok (.aload_n 1, 1) := by decide +kernel
theorem d_Tlearn_26 : decode b_Tlearn 26 = .ok (.invokevirtual 111, 3) := by decide +kernel
theorem d_Tlearn_29 : decode b_Tlearn 29 = .ok (.iconst 4, 1) := by decide +kernel
theorem d_Tlearn_30 : decode b_Tlearn 30 = .ok (.if_icmp .ne 165, 3) := by decide +kernel
theorem d_Tlearn_33 : decode b_Tlearn 33 = .ok (.aload_n 0, 1) := by decide +kernel
theorem d_Tlearn_34 : decode b_Tlearn 34 = .ok (.getfield 37, 3) := by decide +kernel
theorem d_Tlearn_37 : decode b_Tlearn 37 = .ok (.aload_n 1, 1) := by decide +kernel
theorem d_Tlearn_38 : decode b_Tlearn 38 = .ok (.invokevirtual 106, 3) := by decide +kernel
theorem d_Tlearn_41 : decode b_Tlearn 41 = .ok (.iconst 1, 1) := by decide +kernel
theorem d_Tlearn_42 : decode b_Tlearn 42 = .ok (.bastore, 1) := by decide +kernel
theorem d_Tlearn_43 : decode b_Tlearn 43 = .ok (.aload_n 0, 1) := by decide +kernel
theorem d_Tlearn_44 : decode b_Tlearn 44 = .ok (.getfield 33, 3) := by decide +kernel
theorem d_Tlearn_47 : decode b_Tlearn 47 = .ok (.aload_n 1, 1) := by decide +kernel
theorem d_Tlearn_48 : decode b_Tlearn 48 = .ok (.invokevirtual 182, 3) := by decide +kernel
theorem d_Tlearn_51 : decode b_Tlearn 51 = .ok (.new 31, 3) := by decide +kernel
theorem d_Tlearn_54 : decode b_Tlearn 54 = .ok (.dup, 1) := by decide +kernel
theorem d_Tlearn_55 : decode b_Tlearn 55 = .ok (.aload_n 1, 1) := by decide +kernel
theorem d_Tlearn_56 : decode b_Tlearn 56 = .ok (.invokespecial 184, 3) := by decide +kernel
theorem d_Tlearn_59 : decode b_Tlearn 59 = .ok (.aastore, 1) := by decide +kernel
theorem d_Tlearn_60 : decode b_Tlearn 60 = .ok (.aload_n 0, 1) := by decide +kernel
theorem d_Tlearn_61 : decode b_Tlearn 61 = .ok (.iconst 0, 1) := by decide +kernel
theorem d_Tlearn_62 : decode b_Tlearn 62 = .ok (.putfield 165, 3) := by decide +kernel
theorem d_Tlearn_65 : decode b_Tlearn 65 = .ok (.aload_n 0, 1) := by decide +kernel
theorem d_Tlearn_66 : decode b_Tlearn 66 = .ok (.getfield 33, 3) := by decide +kernel
theorem d_Tlearn_69 : decode b_Tlearn 69 = .ok (.aload_n 1, 1) := by decide +kernel
theorem d_Tlearn_70 : decode b_Tlearn 70 = .ok (.invokevirtual 106, 3) := by decide +kernel
theorem d_Tlearn_73 : decode b_Tlearn 73 = .ok (.aaload, 1) := by decide +kernel
theorem d_Tlearn_74 : decode b_Tlearn 74 = .ok (.astore_n 2, 1) := by decide +kernel
theorem d_Tlearn_75 : decode b_Tlearn 75 = .ok (.aload_n 2, 1) := by decide +kernel
theorem d_Tlearn_76 : decode b_Tlearn 76 = .ok (.ifnonnull 4, 3) := by decide +kernel
theorem d_Tlearn_79 : decode b_Tlearn 79 = .ok (.return_, 1) := by decide +kernel
theorem d_Tlearn_80 : decode b_Tlearn 80 = .ok (.iconst 0, 1) := by decide +kernel
theorem d_Tlearn_81 : decode b_Tlearn 81 = .ok (.istore_n 3, 1) := by decide +kernel
theorem d_Tlearn_82 : decode b_Tlearn 82 = .ok (.aload_n 0, 1) := by decide +kernel
theorem d_Tlearn_83 : decode b_Tlearn 83 = .ok (.getfield 27, 3) := by decide +kernel
theorem d_Tlearn_86 : decode b_Tlearn 86 = .ok (.iload_n 3, 1) := by decide +kernel
theorem d_Tlearn_87 : decode b_Tlearn 87 = .ok (.invokevirtual 151, 3) := by decide +kernel
theorem d_Tlearn_90 : decode b_Tlearn 90 = .ok (.aload_n 2, 1) := by decide +kernel
theorem d_Tlearn_91 : decode b_Tlearn 91 = .ok (.if_acmp .eq 9, 3) := by decide +kernel
theorem d_Tlearn_94 : decode b_Tlearn 94 = .ok (.iinc 3 1, 3) := by decide +kernel
theorem d_Tlearn_97 : decode b_Tlearn 97 = .ok (.goto (-15), 3) := by decide +kernel
theorem d_Tlearn_100 : decode b_Tlearn 100 = .ok (.aload_n 0, 1) := by decide +kernel
theorem d_Tlearn_101 : decode b_Tlearn 101 = .ok (.getfield 27, 3) := by decide +kernel
theorem d_Tlearn_104 : decode b_Tlearn 104 = .ok (.invokevirtual 118, 3) := by decide +kernel
theorem d_Tlearn_107 : decode b_Tlearn 107 = .ok (.iconst 1, 1) := by decide +kernel
theorem d_Tlearn_108 : decode b_Tlearn 108 = .ok (.isub, 1) := by decide +kernel
theorem d_Tlearn_109 : decode b_Tlearn 109 = .ok (.istore 4, 2) := by decide +kernel
theorem d_Tlearn_111 : decode b_Tlearn 111 = .ok (.iload 4, 2) := by decide +kernel
theorem d_Tlearn_113 : decode b_Tlearn 113 = .ok (.iload_n 3, 1) := by decide +kernel
theorem d_Tlearn_114 : decode b_Tlearn 114 = .ok (.if_icmp .lt 25, 3) := by decide +kernel
theorem d_Tlearn_117 : decode b_Tlearn 117 = .ok (.aload_n 0, 1) := by decide +kernel
theorem d_Tlearn_118 : decode b_Tlearn 118 = .ok (.aload_n 0, 1) := by decide +kernel
theorem d_Tlearn_119 : decode b_Tlearn 119 = .ok (.getfield 27, 3) := by decide +kernel
theorem d_Tlearn_122 : decode b_Tlearn 122 = .ok (.iload 4, 2) := by decide +kernel
theorem d_Tlearn_124 : decode b_Tlearn 124 = .ok (.invokevirtual 151, 3) := by decide +kernel
theorem d_Tlearn_127 : decode b_Tlearn 127 = .ok (.checkcast 31, 3) := by decide +kernel
theorem d_Tlearn_130 : decode b_Tlearn 130 = .ok (.invokevirtual 158, 3) := by decide +kernel
theorem d_Tlearn_133 : decode b_Tlearn 133 = .ok (.iinc 4 (-1), 3) := by decide +kernel
theorem d_Tlearn_136 : decode b_Tlearn 136 = .ok (.goto (-25), 3) := by decide +kernel
theorem d_Tlearn_139 : decode b_Tlearn 139 = .ok (.aload_n 2, 1) := by decide +kernel
theorem d_Tlearn_140 : decode b_Tlearn 140 = .ok (.iconst 1, 1) := by decide +kernel
theorem d_Tlearn_141 : decode b_Tlearn 141 = .ok (.putfield 99, 3) := by decide +kernel
theorem d_Tlearn_144 : decode b_Tlearn 144 = .ok (.iload_n 3, 1) := by decide +kernel
theorem d_Tlearn_145 : decode b_Tlearn 145 = .ok (.istore 4, 2) := by decide +kernel
theorem d_Tlearn_147 : decode b_Tlearn 147 = .ok (.iload 4, 2) := by decide +kernel
theorem d_Tlearn_149 : decode b_Tlearn 149 = .ok (.aload_n 0, 1) := by decide +kernel
theorem d_Tlearn_150 : decode b_Tlearn 150 = .ok (.getfield 27, 3) := by decide +kernel
theorem d_Tlearn_153 : decode b_Tlearn 153 = .ok (.invokevirtual 118, 3) := by decide +kernel
theorem d_Tlearn_156 : decode b_Tlearn 156 = .ok (.if_icmp .ge 25, 3) := by decide +kernel
theorem d_Tlearn_159 : decode b_Tlearn 159 = .ok (.aload_n 0, 1) := by decide +kernel
theorem d_Tlearn_160 : decode b_Tlearn 160 = .ok (.aload_n 0, 1) := by decide +kernel
theorem d_Tlearn_161 : decode b_Tlearn 161 = .ok (.getfield 27, 3) := by decide +kernel
theorem d_Tlearn_164 : decode b_Tlearn 164 = .ok (.iload 4, 2) := by decide +kernel
theorem d_Tlearn_166 : decode b_Tlearn 166 = .ok (.invokevirtual 151, 3) := by decide +kernel
theorem d_Tlearn_169 : decode b_Tlearn 169 = .ok (.checkcast 31, 3) := by decide +kernel
theorem d_Tlearn_172 : decode b_Tlearn 172 = .ok (.invokevirtual 162, 3) := by decide +kernel
theorem d_Tlearn_175 : decode b_Tlearn 175 = .ok (.iinc 4 1, 3) := by decide +kernel
theorem d_Tlearn_178 : decode b_Tlearn 178 = .ok (.goto (-31), 3) := by decide +kernel
theorem d_Tlearn_181 : decode b_Tlearn 181 = .ok (.aload_n 0, 1) := by decide +kernel
theorem d_Tlearn_182 : decode b_Tlearn 182 = .ok (.aload_n 0, 1) := by decide +kernel
theorem d_Tlearn_183 : decode b_Tlearn 183 = .ok (.getfield 27, 3) := by decide +kernel
theorem d_Tlearn_186 : decode b_Tlearn 186 = .ok (.invokevirtual 118, 3) := by decide +kernel
theorem d_Tlearn_189 : decode b_Tlearn 189 = .ok (.iload_n 3, 1) := by decide +kernel
theorem d_Tlearn_190 : decode b_Tlearn 190 = .ok (.isub, 1) := by decide +kernel
theorem d_Tlearn_191 : decode b_Tlearn 191 = .ok (.putfield 165, 3) := by decide +kernel
theorem d_Tlearn_194 : decode b_Tlearn 194 = .ok (.return_, 1) := by decide +kernel
theorem d_Tlearn_195 : decode b_Tlearn 195 = .ok (.new 31, 3) := by decide +kernel
theorem d_Tlearn_198 : decode b_Tlearn 198 = .ok (.dup, 1) := by decide +kernel
theorem d_Tlearn_199 : decode b_Tlearn 199 = .ok (.aload_n 1, 1) := by decide +kernel
theorem d_Tlearn_200 : decode b_Tlearn 200 = .ok (.invokespecial 184, 3) := by decide +kernel
theorem d_Tlearn_203 : decode b_Tlearn 203 = .ok (.astore_n 2, 1) := by decide +kernel
theorem d_Tlearn_204 : decode b_Tlearn 204 = .ok (.aload_n 2, 1) := by decide +kernel
theorem d_Tlearn_205 : decode b_Tlearn 205 = .ok (.aload_n 0, 1) := by decide +kernel
theorem d_Tlearn_206 : decode b_Tlearn 206 = .ok (.getfield 37, 3) := by decide +kernel
theorem d_Tlearn_209 : decode b_Tlearn 209 = .ok (.aload_n 1, 1) := by decide +kernel
theorem d_Tlearn_210 : decode b_Tlearn 210 = .ok (.invokevirtual 182, 3) := by decide +kernel
theorem d_Tlearn_213 : decode b_Tlearn 213 = .ok (.baload, 1) := by decide +kernel
theorem d_Tlearn_214 : decode b_Tlearn 214 = .ok (.putfield 99, 3) := by decide +kernel
theorem d_Tlearn_217 : decode b_Tlearn 217 = .ok (.aload_n 0, 1) := by decide +kernel
theorem d_Tlearn_218 : decode b_Tlearn 218 = .ok (.getfield 33, 3) := by decide +kernel
theorem d_Tlearn_221 : decode b_Tlearn 221 = .ok (.aload_n 1, 1) := by decide +kernel
theorem d_Tlearn_222 : decode b_Tlearn 222 = .ok (.invokevirtual 182, 3) := by decide +kernel
theorem d_Tlearn_225 : decode b_Tlearn 225 = .ok (.aload_n 2, 1) := by decide +kernel
theorem d_Tlearn_226 : decode b_Tlearn 226 = .ok (.aastore, 1) := by decide +kernel
theorem d_Tlearn_227 : decode b_Tlearn 227 = .ok (.aload_n 0, 1) := by decide +kernel
theorem d_Tlearn_228 : decode b_Tlearn 228 = .ok (.aload_n 0, 1) := by decide +kernel
theorem d_Tlearn_229 : decode b_Tlearn 229 = .ok (.aload_n 1, 1) := by decide +kernel
theorem d_Tlearn_230 : decode b_Tlearn 230 = .ok (.invokevirtual 187, 3) := by decide +kernel
theorem d_Tlearn_233 : decode b_Tlearn 233 = .ok (.aload_n 2, 1) := by decide +kernel
theorem d_Tlearn_234 : decode b_Tlearn 234 = .ok (.invokevirtual 190, 3) := by decide +kernel
theorem d_Tlearn_237 : decode b_Tlearn 237 = .ok (.return_, 1) := by decide +kernel
theorem d_Rtime_0 : decode b_Rtime 0 = .ok (.aload_n 0, 1) := by decide +kernel
theorem d_Rtime_1 : decode b_Rtime 1 = .ok (.getfield 16, 3) := by decide +kernel
theorem d_Rtime_4 : decode b_Rtime 4 = .ok (.ireturn, 1) := by decide +kernel
theorem d_Rsort_0 : decode b_Rsort 0 = .ok (.aload_n 0, 1) := by decide +kernel
theorem d_Rsort_1 : decode b_Rsort 1 = .ok (.getfield 19, 3) := by decide +kernel
theorem d_Rsort_4 : decode b_Rsort 4 = .ok (.ireturn, 1) := by decide +kernel
theorem d_Robject_0 : decode b_Robject 0 = .ok (.aload_n 0, 1) := by decide +kernel
theorem d_Robject_1 : decode b_Robject 1 = .ok (.getfield 22, 3) := by decide +kernel
theorem d_Robject_4 : decode b_Robject 4 = .ok (.ireturn, 1) := by decide +kernel
theorem d_Rnumber_0 : decode b_Rnumber 0 = .ok (.aload_n 0, 1) := by decide +kernel
theorem d_Rnumber_1 : decode b_Rnumber 1 = .ok (.getfield 7, 3) := by decide +kernel
theorem d_Rnumber_4 : decode b_Rnumber 4 = .ok (.ireturn, 1) := by decide +kernel
theorem d_Sinit_0 : decode b_Sinit 0 = .ok (.aload_n 0, 1) := by decide +kernel
theorem d_Sinit_1 : decode b_Sinit 1 = .ok (.invokespecial 1, 3) := by decide +kernel
theorem d_Sinit_4 : decode b_Sinit 4 = .ok (.aload_n 0, 1) := by decide +kernel
theorem d_Sinit_5 : decode b_Sinit 5 = .ok (.aload_n 1, 1) := by decide +kernel
theorem d_Sinit_6 : decode b_Sinit 6 = .ok (.putfield 7, 3) := by decide +kernel
theorem d_Sinit_9 : decode b_Sinit 9 = .ok (.return_, 1) := by decide +kernel
theorem d_Tback_0 : decode b_Tback 0 = .ok (.aload_n 1, 1) := by decide +kernel
theorem d_Tback_1 : decode b_Tback 1 = .ok (.getfield 85, 3) := by decide +kernel
theorem d_Tback_4 : decode b_Tback 4 = .ok (.ifCond .ne 4, 3) := by decide +kernel
theorem d_Tback_7 : decode b_Tback 7 = .ok (.return_, 1) := by decide +kernel
theorem d_Tback_8 : decode b_Tback 8 = .ok (.aload_n 1, 1) := by decide +kernel
theorem d_Tback_9 : decode b_Tback 9 = .ok (.getfield 88, 3) := by decide +kernel
theorem d_Tback_12 : decode b_Tback 12 = .ok (.astore_n 2, 1) := by decide +kernel
theorem d_Tback_13 : decode b_Tback 13 = .ok (.aload_n 0, 1) := by decide +kernel
theorem d_Tback_14 : decode b_Tback 14 = .ok (.aload_n 2, 1) := by decide +kernel
theorem d_Tback_15 : decode b_Tback 15 = .ok (.invokevirtual 135, 3) := by decide +kernel
theorem d_Tback_18 : decode b_Tback 18 = .ok (.aload_n 2, 1) := by decide +kernel
theorem d_Tback_19 : decode b_Tback 19 = .ok (.aload_n 1, 1) := by decide +kernel
theorem d_Tback_20 : decode b_Tback 20 = .ok (.getfield 95, 3) := by decide +kernel
theorem d_Tback_23 : decode b_Tback 23 = .ok (.putfield 92, 3) := by decide +kernel
theorem d_Tback_26 : decode b_Tback 26 = .ok (.aload_n 1, 1) := by decide +kernel
theorem d_Tback_27 : decode b_Tback 27 = .ok (.getfield 91, 3) := by decide +kernel
theorem d_Tback_30 : decode b_Tback 30 = .ok (.ifnull 19, 3) := by decide +kernel
theorem d_Tback_33 : decode b_Tback 33 = .ok (.aload_n 0, 1) := by decide +kernel
theorem d_Tback_34 : decode b_Tback 34 = .ok (.aload_n 2, 1) := by decide +kernel
theorem d_Tback_35 : decode b_Tback 35 = .ok (.aload_n 1, 1) := by decide +kernel
theorem d_Tback_36 : decode b_Tback 36 = .ok (.getfield 91, 3) := by decide +kernel
theorem d_Tback_39 : decode b_Tback 39 = .ok (.aload_n 1, 1) := by decide +kernel
theorem d_Tback_40 : decode b_Tback 40 = .ok (.getfield 96, 3) := by decide +kernel
theorem d_Tback_43 : decode b_Tback 43 = .ok (.invokevirtual 121, 3) := by decide +kernel
theorem d_Tback_46 : decode b_Tback 46 = .ok (.goto 19, 3) := by decide +kernel
theorem d_Tback_49 : decode b_Tback 49 = .ok (.aload_n 2, 1) := by decide +kernel
theorem d_Tback_50 : decode b_Tback 50 = .ok (.aload_n 2, 1) := by decide +kernel
theorem d_Tback_51 : decode b_Tback 51 = .ok (.getfield 149, 3) := by decide +kernel
theorem d_Tback_54 : decode b_Tback 54 = .ok (.ifCond .ne 7, 3) := by decide +kernel
theorem d_Tback_57 : decode b_Tback 57 = .ok (.iconst 1, 1) := by decide +kernel
theorem d_Tback_58 : decode b_Tback 58 = .ok (.goto 4, 3) := by decide +kernel
theorem d_Tback_61 : decode b_Tback 61 = .ok (.iconst 0, 1) := by decide +kernel
theorem d_Tback_62 : decode b_Tback 62 = .ok (.putfield 45, 3) := by decide +kernel
theorem d_Tback_65 : decode b_Tback 65 = .ok (.return_, 1) := by decide +kernel
theorem d_Ttake_0 : decode b_Ttake 0 = .ok (.aload_n 1, 1) := by decide +kernel
theorem d_Ttake_1 : decode b_Ttake 1 = .ok (.getfield 49, 3) := by decide +kernel
theorem d_Ttake_4 : decode b_Ttake 4 = .ok (.ifnull 22, 3) := by decide +kernel
theorem d_Ttake_7 : decode b_Ttake 7 = .ok (.aload_n 1, 1) := by decide +kernel
theorem d_Ttake_8 : decode b_Ttake 8 = .ok (.getfield 49, 3) := by decide +kernel
theorem d_Ttake_11 : decode b_Ttake 11 = .ok (.getfield 70, 3) := by decide +kernel
theorem d_Ttake_14 : decode b_Ttake 14 = .ok (.aload_n 1, 1) := by decide +kernel
theorem d_Ttake_15 : decode b_Ttake 15 = .ok (.getfield 49, 3) := by decide +kernel
theorem d_Ttake_18 : decode b_Ttake 18 = .ok (.aload_n 1, 1) := by decide +kernel
theorem d_Ttake_19 : decode b_Ttake 19 = .ok (.invokevirtual 73, 3) := by decide +kernel
theorem d_Ttake_22 : decode b_Ttake 22 = .ok (.invokevirtual 77, 3) := by decide +kernel
theorem d_Ttake_25 : decode b_Ttake 25 = .ok (.pop, 1) := by decide +kernel
theorem d_Ttake_26 : decode b_Ttake 26 = .ok (.aload_n 1, 1) := by decide +kernel
theorem d_Ttake_27 : decode b_Ttake 27 = .ok (.aconst_null, 1) := by decide +kernel
theorem d_Ttake_28 : decode b_Ttake 28 = .ok (.putfield 49, 3) := by decide +kernel
theorem d_Ttake_31 : decode b_Ttake 31 = .ok (.return_, 1) := by decide +kernel
theorem d_PplaceOf_0 : decode b_PplaceOf 0 = .ok (.iconst 0, 1) := by decide +kernel
theorem d_PplaceOf_1 : decode b_PplaceOf 1 = .ok (.istore_n 2, 1) := by decide +kernel
theorem d_PplaceOf_2 : decode b_PplaceOf 2 = .ok (.aload_n 0, 1) := by decide +kernel
theorem d_PplaceOf_3 : decode b_PplaceOf 3 = .ok (.getfield 10, 3) := by decide +kernel
theorem d_PplaceOf_6 : decode b_PplaceOf 6 = .ok (.iload_n 2, 1) := by decide +kernel
theorem d_PplaceOf_7 : decode b_PplaceOf 7 = .ok (.invokevirtual 20, 3) := by decide +kernel
theorem d_PplaceOf_10 : decode b_PplaceOf 10 = .ok (.aload_n 1, 1) := by decide +kernel
theorem d_PplaceOf_11 : decode b_PplaceOf 11 = .ok (.if_acmp .eq 9, 3) := by decide +kernel
theorem d_PplaceOf_14 : decode b_PplaceOf 14 = .ok (.iinc 2 1, 3) := by decide +kernel
theorem d_PplaceOf_17 : decode b_PplaceOf 17 = .ok (.goto (-15), 3) := by decide +kernel
theorem d_PplaceOf_20 : decode b_PplaceOf 20 = .ok (.iload_n 2, 1) := by decide +kernel
theorem d_PplaceOf_21 : decode b_PplaceOf 21 = .ok (.ireturn, 1) := by decide +kernel
theorem d_Tput_0 : decode b_Tput 0 = .ok (.aload_n 2, 1) := by decide +kernel
theorem d_Tput_1 : decode b_Tput 1 = .ok (.getfield 70, 3) := by decide +kernel
theorem d_Tput_4 : decode b_Tput 4 = .ok (.iload_n 3, 1) := by decide +kernel
theorem d_Tput_5 : decode b_Tput 5 = .ok (.aload_n 1, 1) := by decide +kernel
theorem d_Tput_6 : decode b_Tput 6 = .ok (.invokevirtual 81, 3) := by decide +kernel
theorem d_Tput_9 : decode b_Tput 9 = .ok (.aload_n 1, 1) := by decide +kernel
theorem d_Tput_10 : decode b_Tput 10 = .ok (.aload_n 2, 1) := by decide +kernel
theorem d_Tput_11 : decode b_Tput 11 = .ok (.putfield 49, 3) := by decide +kernel
theorem d_Tput_14 : decode b_Tput 14 = .ok (.return_, 1) := by decide +kernel
theorem d_Tgo_0 : decode b_Tgo 0 = .ok (.aload_n 1, 1) := by decide +kernel
theorem d_Tgo_1 : decode b_Tgo 1 = .ok (.iconst 0, 1) := by decide +kernel
theorem d_Tgo_2 : decode b_Tgo 2 = .ok (.putfield 85, 3) := by decide +kernel
theorem d_Tgo_5 : decode b_Tgo 5 = .ok (.aload_n 1, 1) := by decide +kernel
theorem d_Tgo_6 : decode b_Tgo 6 = .ok (.getfield 99, 3) := by decide +kernel
theorem d_Tgo_9 : decode b_Tgo 9 = .ok (.ifCond .eq 4, 3) := by decide +kernel
theorem d_Tgo_12 : decode b_Tgo 12 = .ok (.return_, 1) := by decide +kernel
theorem d_Tgo_13 : decode b_Tgo 13 = .ok (.aload_n 0, 1) := by decide +kernel
theorem d_Tgo_14 : decode b_Tgo 14 = .ok (.getfield 11, 3) := by decide +kernel
theorem d_Tgo_17 : decode b_Tgo 17 = .ok (.aload_n 1, 1) := by decide +kernel
theorem d_Tgo_18 : decode b_Tgo 18 = .ok (.getfield 102, 3) := by decide +kernel
theorem d_Tgo_21 : decode b_Tgo 21 = .ok (.invokevirtual 106, 3) := by decide +kernel
theorem d_Tgo_24 : decode b_Tgo 24 = .ok (.aaload, 1) := by decide +kernel
theorem d_Tgo_25 : decode b_Tgo 25 = .ok (.astore_n 2, 1) := by decide +kernel
theorem d_Tgo_26 : decode b_Tgo 26 = .ok (.aload_n 1, 1) := by decide +kernel
theorem d_Tgo_27 : decode b_Tgo 27 = .ok (.getfield 102, 3) := by decide +kernel
theorem d_Tgo_30 : decode b_Tgo 30 = .ok (.invokevirtual 111, 3) := by decide +kernel
theorem d_Tgo_33 : decode b_Tgo 33 = .ok (.tableswitch 140 0 2 #[27, 70, 91], 27) := by decide +kernel
theorem d_Tgo_60 : decode b_Tgo 60 = .ok (.aload_n 0, 1) := by decide +kernel
theorem d_Tgo_61 : decode b_Tgo 61 = .ok (.aload_n 1, 1) := by decide +kernel
theorem d_Tgo_62 : decode b_Tgo 62 = .ok (.aload_n 2, 1) := by decide +kernel
theorem d_Tgo_63 : decode b_Tgo 63 = .ok (.invokevirtual 114, 3) := by decide +kernel
theorem d_Tgo_66 : decode b_Tgo 66 = .ok (.aload_n 2, 1) := by decide +kernel
theorem d_Tgo_67 : decode b_Tgo 67 = .ok (.iconst 1, 1) := by decide +kernel
theorem d_Tgo_68 : decode b_Tgo 68 = .ok (.putfield 45, 3) := by decide +kernel
theorem d_Tgo_71 : decode b_Tgo 71 = .ok (.aload_n 2, 1) := by decide +kernel
theorem d_Tgo_72 : decode b_Tgo 72 = .ok (.aload_n 0, 1) := by decide +kernel
theorem d_Tgo_73 : decode b_Tgo 73 = .ok (.getfield 11, 3) := by decide +kernel
theorem d_Tgo_76 : decode b_Tgo 76 = .ok (.iconst 0, 1) := by decide +kernel
theorem d_Tgo_77 : decode b_Tgo 77 = .ok (.aaload, 1) := by decide +kernel
theorem d_Tgo_78 : decode b_Tgo 78 = .ok (.putfield 92, 3) := by decide +kernel
theorem d_Tgo_81 : decode b_Tgo 81 = .ok (.aload_n 0, 1) := by decide +kernel
theorem d_Tgo_82 : decode b_Tgo 82 = .ok (.aload_n 2, 1) := by decide +kernel
theorem d_Tgo_83 : decode b_Tgo 83 = .ok (.aload_n 0, 1) := by decide +kernel
theorem d_Tgo_84 : decode b_Tgo 84 = .ok (.getfield 20, 3) := by decide +kernel
theorem d_Tgo_87 : decode b_Tgo 87 = .ok (.aload_n 0, 1) := by decide +kernel
theorem d_Tgo_88 : decode b_Tgo 88 = .ok (.getfield 20, 3) := by decide +kernel
theorem d_Tgo_91 : decode b_Tgo 91 = .ok (.getfield 70, 3) := by decide +kernel
theorem d_Tgo_94 : decode b_Tgo 94 = .ok (.invokevirtual 118, 3) := by decide +kernel
theorem d_Tgo_97 : decode b_Tgo 97 = .ok (.invokevirtual 121, 3) := by decide +kernel
theorem d_Tgo_100 : decode b_Tgo 100 = .ok (.goto 79, 3) := by decide +kernel
theorem d_Tgo_103 : decode b_Tgo 103 = .ok (.aload_n 0, 1) := by decide +kernel
theorem d_Tgo_104 : decode b_Tgo 104 = .ok (.aload_n 1, 1) := by decide +kernel
theorem d_Tgo_105 : decode b_Tgo 105 = .ok (.aload_n 2, 1) := by decide +kernel
theorem d_Tgo_106 : decode b_Tgo 106 = .ok (.aload_n 0, 1) := by decide +kernel
theorem d_Tgo_107 : decode b_Tgo 107 = .ok (.getfield 11, 3) := by decide +kernel
theorem d_Tgo_110 : decode b_Tgo 110 = .ok (.aload_n 1, 1) := by decide +kernel
theorem d_Tgo_111 : decode b_Tgo 111 = .ok (.getfield 102, 3) := by decide +kernel
theorem d_Tgo_114 : decode b_Tgo 114 = .ok (.invokevirtual 125, 3) := by decide +kernel
theorem d_Tgo_117 : decode b_Tgo 117 = .ok (.aaload, 1) := by decide +kernel
theorem d_Tgo_118 : decode b_Tgo 118 = .ok (.invokevirtual 128, 3) := by decide +kernel
theorem d_Tgo_121 : decode b_Tgo 121 = .ok (.goto 58, 3) := by decide +kernel
theorem d_Tgo_124 : decode b_Tgo 124 = .ok (.aload_n 2, 1) := by decide +kernel
theorem d_Tgo_125 : decode b_Tgo 125 = .ok (.getfield 45, 3) := by decide +kernel
theorem d_Tgo_128 : decode b_Tgo 128 = .ok (.ifCond .eq 11, 3) := by decide +kernel
theorem d_Tgo_131 : decode b_Tgo 131 = .ok (.aload_n 0, 1) := by decide +kernel
theorem d_Tgo_132 : decode b_Tgo 132 = .ok (.aload_n 2, 1) := by decide +kernel
theorem d_Tgo_133 : decode b_Tgo 133 = .ok (.invokevirtual 132, 3) := by decide +kernel
theorem d_Tgo_136 : decode b_Tgo 136 = .ok (.ifCond .eq 4, 3) := by decide +kernel
theorem d_Tgo_139 : decode b_Tgo 139 = .ok (.return_, 1) := by decide +kernel
theorem d_Tgo_140 : decode b_Tgo 140 = .ok (.aload_n 0, 1) := by decide +kernel
theorem d_Tgo_141 : decode b_Tgo 141 = .ok (.aload_n 1, 1) := by decide +kernel
theorem d_Tgo_142 : decode b_Tgo 142 = .ok (.aload_n 2, 1) := by decide +kernel
theorem d_Tgo_143 : decode b_Tgo 143 = .ok (.invokevirtual 114, 3) := by decide +kernel
theorem d_Tgo_146 : decode b_Tgo 146 = .ok (.aload_n 0, 1) := by decide +kernel
theorem d_Tgo_147 : decode b_Tgo 147 = .ok (.aload_n 2, 1) := by decide +kernel
theorem d_Tgo_148 : decode b_Tgo 148 = .ok (.invokevirtual 135, 3) := by decide +kernel
theorem d_Tgo_151 : decode b_Tgo 151 = .ok (.aload_n 0, 1) := by decide +kernel
theorem d_Tgo_152 : decode b_Tgo 152 = .ok (.aload_n 2, 1) := by decide +kernel
theorem d_Tgo_153 : decode b_Tgo 153 = .ok (.aload_n 0, 1) := by decide +kernel
theorem d_Tgo_154 : decode b_Tgo 154 = .ok (.getfield 20, 3) := by decide +kernel
theorem d_Tgo_157 : decode b_Tgo 157 = .ok (.aload_n 0, 1) := by decide +kernel
theorem d_Tgo_158 : decode b_Tgo 158 = .ok (.getfield 20, 3) := by decide +kernel
theorem d_Tgo_161 : decode b_Tgo 161 = .ok (.getfield 70, 3) := by decide +kernel
theorem d_Tgo_164 : decode b_Tgo 164 = .ok (.invokevirtual 118, 3) := by decide +kernel
theorem d_Tgo_167 : decode b_Tgo 167 = .ok (.invokevirtual 121, 3) := by decide +kernel
theorem d_Tgo_170 : decode b_Tgo 170 = .ok (.goto 9, 3) := by decide +kernel
theorem d_Tgo_173 : decode b_Tgo 173 = .ok (.aload_n 0, 1) := by decide +kernel
theorem d_Tgo_174 : decode b_Tgo 174 = .ok (.aload_n 1, 1) := by decide +kernel
theorem d_Tgo_175 : decode b_Tgo 175 = .ok (.aload_n 2, 1) := by decide +kernel
theorem d_Tgo_176 : decode b_Tgo 176 = .ok (.invokevirtual 139, 3) := by decide +kernel
theorem d_Tgo_179 : decode b_Tgo 179 = .ok (.return_, 1) := by decide +kernel
theorem d_Tbegin_0 : decode b_Tbegin 0 = .ok (.aload_n 1, 1) := by decide +kernel
theorem d_Tbegin_1 : decode b_Tbegin 1 = .ok (.iconst 1, 1) := by decide +kernel
theorem d_Tbegin_2 : decode b_Tbegin 2 = .ok (.putfield 85, 3) := by decide +kernel
theorem d_Tbegin_5 : decode b_Tbegin 5 = .ok (.aload_n 1, 1) := by decide +kernel
theorem d_Tbegin_6 : decode b_Tbegin 6 = .ok (.aload_n 2, 1) := by decide +kernel
theorem d_Tbegin_7 : decode b_Tbegin 7 = .ok (.putfield 88, 3) := by decide +kernel
theorem d_Tbegin_10 : decode b_Tbegin 10 = .ok (.aload_n 1, 1) := by decide +kernel
theorem d_Tbegin_11 : decode b_Tbegin 11 = .ok (.aload_n 2, 1) := by decide +kernel
theorem d_Tbegin_12 : decode b_Tbegin 12 = .ok (.getfield 49, 3) := by decide +kernel
theorem d_Tbegin_15 : decode b_Tbegin 15 = .ok (.putfield 91, 3) := by decide +kernel
theorem d_Tbegin_18 : decode b_Tbegin 18 = .ok (.aload_n 1, 1) := by decide +kernel
theorem d_Tbegin_19 : decode b_Tbegin 19 = .ok (.aload_n 2, 1) := by decide +kernel
theorem d_Tbegin_20 : decode b_Tbegin 20 = .ok (.getfield 92, 3) := by decide +kernel
theorem d_Tbegin_23 : decode b_Tbegin 23 = .ok (.putfield 95, 3) := by decide +kernel
theorem d_Tbegin_26 : decode b_Tbegin 26 = .ok (.aload_n 1, 1) := by decide +kernel
theorem d_Tbegin_27 : decode b_Tbegin 27 = .ok (.aload_n 2, 1) := by decide +kernel
theorem d_Tbegin_28 : decode b_Tbegin 28 = .ok (.getfield 49, 3) := by decide +kernel
theorem d_Tbegin_31 : decode b_Tbegin 31 = .ok (.ifnonnull 7, 3) := by decide +kernel
theorem d_Tbegin_34 : decode b_Tbegin 34 = .ok (.iconst 0, 1) := by decide +kernel
theorem d_Tbegin_35 : decode b_Tbegin 35 = .ok (.goto 11, 3) := by decide +kernel
theorem d_Tbegin_38 : decode b_Tbegin 38 = .ok (.aload_n 2, 1) := by decide +kernel
theorem d_Tbegin_39 : decode b_Tbegin 39 = .ok (.getfield 49, 3) := by decide +kernel
theorem d_Tbegin_42 : decode b_Tbegin 42 = .ok (.aload_n 2, 1) := by decide +kernel
theorem d_Tbegin_43 : decode b_Tbegin 43 = .ok (.invokevirtual 73, 3) := by decide +kernel
theorem d_Tbegin_46 : decode b_Tbegin 46 = .ok (.putfield 96, 3) := by decide +kernel
theorem d_Tbegin_49 : decode b_Tbegin 49 = .ok (.return_, 1) := by decide +kernel
theorem d_Rto_0 : decode b_Rto 0 = .ok (.aload_n 0, 1) := by decide +kernel
theorem d_Rto_1 : decode b_Rto 1 = .ok (.getfield 25, 3) := by decide +kernel
theorem d_Rto_4 : decode b_Rto 4 = .ok (.ireturn, 1) := by decide +kernel
theorem d_Tmove_0 : decode b_Tmove 0 = .ok (.aload_n 0, 1) := by decide +kernel
theorem d_Tmove_1 : decode b_Tmove 1 = .ok (.aload_n 2, 1) := by decide +kernel
theorem d_Tmove_2 : decode b_Tmove 2 = .ok (.aload_n 3, 1) := by decide +kernel
theorem d_Tmove_3 : decode b_Tmove 3 = .ok (.invokevirtual 142, 3) := by decide +kernel
theorem d_Tmove_6 : decode b_Tmove 6 = .ok (.ifCond .ne 4, 3) := by decide +kernel
theorem d_Tmove_9 : decode b_Tmove 9 = .ok (.return_, 1) := by decide +kernel
theorem d_Tmove_10 : decode b_Tmove 10 = .ok (.aload_n 0, 1) := by decide +kernel
theorem d_Tmove_11 : decode b_Tmove 11 = .ok (.aload_n 1, 1) := by decide +kernel
theorem d_Tmove_12 : decode b_Tmove 12 = .ok (.aload_n 2, 1) := by decide +kernel
theorem d_Tmove_13 : decode b_Tmove 13 = .ok (.invokevirtual 114, 3) := by decide +kernel
theorem d_Tmove_16 : decode b_Tmove 16 = .ok (.aload_n 0, 1) := by decide +kernel
theorem d_Tmove_17 : decode b_Tmove 17 = .ok (.aload_n 2, 1) := by decide +kernel
theorem d_Tmove_18 : decode b_Tmove 18 = .ok (.invokevirtual 135, 3) := by decide +kernel
theorem d_Tmove_21 : decode b_Tmove 21 = .ok (.aload_n 1, 1) := by decide +kernel
theorem d_Tmove_22 : decode b_Tmove 22 = .ok (.getfield 102, 3) := by decide +kernel
theorem d_Tmove_25 : decode b_Tmove 25 = .ok (.invokevirtual 146, 3) := by decide +kernel
theorem d_Tmove_28 : decode b_Tmove 28 = .ok (.iconst (-1), 1) := by decide +kernel
theorem d_Tmove_29 : decode b_Tmove 29 = .ok (.if_icmp .ne 7, 3) := by decide +kernel
theorem d_Tmove_32 : decode b_Tmove 32 = .ok (.aconst_null, 1) := by decide +kernel
theorem d_Tmove_33 : decode b_Tmove 33 = .ok (.goto 15, 3) := by decide +kernel
theorem d_Tmove_36 : decode b_Tmove 36 = .ok (.aload_n 0, 1) := by decide +kernel
theorem d_Tmove_37 : decode b_Tmove 37 = .ok (.getfield 11, 3) := by decide +kernel
theorem d_Tmove_40 : decode b_Tmove 40 = .ok (.aload_n 1, 1) := by decide +kernel
theorem d_Tmove_41 : decode b_Tmove 41 = .ok (.getfield 102, 3) := by decide +kernel
theorem d_Tmove_44 : decode b_Tmove 44 = .ok (.invokevirtual 146, 3) := by decide +kernel
theorem d_Tmove_47 : decode b_Tmove 47 = .ok (.aaload, 1) := by decide +kernel
theorem d_Tmove_48 : decode b_Tmove 48 = .ok (.astore 4, 2) := by decide +kernel
theorem d_Tmove_50 : decode b_Tmove 50 = .ok (.aload_n 0, 1) := by decide +kernel
theorem d_Tmove_51 : decode b_Tmove 51 = .ok (.aload_n 2, 1) := by decide +kernel
theorem d_Tmove_52 : decode b_Tmove 52 = .ok (.aload_n 3, 1) := by decide +kernel
theorem d_Tmove_53 : decode b_Tmove 53 = .ok (.aload 4, 2) := by decide +kernel
theorem d_Tmove_55 : decode b_Tmove 55 = .ok (.ifnull 23, 3) := by decide +kernel
theorem d_Tmove_58 : decode b_Tmove 58 = .ok (.aload 4, 2) := by decide +kernel
theorem d_Tmove_60 : decode b_Tmove 60 = .ok (.getfield 49, 3) := by decide +kernel
theorem d_Tmove_63 : decode b_Tmove 63 = .ok (.aload_n 3, 1) := by decide +kernel
theorem d_Tmove_64 : decode b_Tmove 64 = .ok (.if_acmp .ne 14, 3) := by decide +kernel
theorem d_Tmove_67 : decode b_Tmove 67 = .ok (.aload_n 3, 1) := by decide +kernel
theorem d_Tmove_68 : decode b_Tmove 68 = .ok (.aload 4, 2) := by decide +kernel
theorem d_Tmove_70 : decode b_Tmove 70 = .ok (.invokevirtual 73, 3) := by decide +kernel
theorem d_Tmove_73 : decode b_Tmove 73 = .ok (.iconst 1, 1) := by decide +kernel
theorem d_Tmove_74 : decode b_Tmove 74 = .ok (.iadd, 1) := by decide +kernel
theorem d_Tmove_75 : decode b_Tmove 75 = .ok (.goto 4, 3) := by decide +kernel
theorem d_Tmove_78 : decode b_Tmove 78 = .ok (.iconst 0, 1) := by decide +kernel
theorem d_Tmove_79 : decode b_Tmove 79 = .ok (.invokevirtual 121, 3) := by decide +kernel
theorem d_Tmove_82 : decode b_Tmove 82 = .ok (.aload_n 2, 1) := by decide +kernel
theorem d_Tmove_83 : decode b_Tmove 83 = .ok (.aload_n 3, 1) := by decide +kernel
theorem d_Tmove_84 : decode b_Tmove 84 = .ok (.putfield 92, 3) := by decide +kernel
theorem d_Tmove_87 : decode b_Tmove 87 = .ok (.return_, 1) := by decide +kernel
theorem d_TmayGo_0 : decode b_TmayGo 0 = .ok (.aload_n 1, 1) := by decide +kernel
theorem d_TmayGo_1 : decode b_TmayGo 1 = .ok (.getfield 45, 3) := by decide +kernel
theorem d_TmayGo_4 : decode b_TmayGo 4 = .ok (.ifCond .eq 46, 3) := by decide +kernel
theorem d_TmayGo_7 : decode b_TmayGo 7 = .ok (.aload_n 2, 1) := by decide +kernel
theorem d_TmayGo_8 : decode b_TmayGo 8 = .ok (.getfield 45, 3) := by decide +kernel
theorem d_TmayGo_11 : decode b_TmayGo 11 = .ok (.ifCond .eq 39, 3) := by decide +kernel
theorem d_TmayGo_14 : decode b_TmayGo 14 = .ok (.aload_n 2, 1) := by decide +kernel
theorem d_TmayGo_15 : decode b_TmayGo 15 = .ok (.aload_n 1, 1) := by decide +kernel
theorem d_TmayGo_16 : decode b_TmayGo 16 = .ok (.invokevirtual 56, 3) := by decide +kernel
theorem d_TmayGo_19 : decode b_TmayGo 19 = .ok (.ifCond .ne 31, 3) := by decide +kernel
theorem d_TmayGo_22 : decode b_TmayGo 22 = .ok (.aload_n 0, 1) := by decide +kernel
theorem d_TmayGo_23 : decode b_TmayGo 23 = .ok (.aload_n 2, 1) := by decide +kernel
theorem d_TmayGo_24 : decode b_TmayGo 24 = .ok (.invokevirtual 60, 3) := by decide +kernel
theorem d_TmayGo_27 : decode b_TmayGo 27 = .ok (.ifCond .ne 23, 3) := by decide +kernel
theorem d_TmayGo_30 : decode b_TmayGo 30 = .ok (.aload_n 2, 1) := by decide +kernel
theorem d_TmayGo_31 : decode b_TmayGo 31 = .ok (.invokevirtual 63, 3) := by decide +kernel
theorem d_TmayGo_34 : decode b_TmayGo 34 = .ok (.iconst 1, 1) := by decide +kernel
theorem d_TmayGo_35 : decode b_TmayGo 35 = .ok (.iadd, 1) := by decide +kernel
theorem d_TmayGo_36 : decode b_TmayGo 36 = .ok (.aload_n 1, 1) := by decide +kernel
theorem d_TmayGo_37 : decode b_TmayGo 37 = .ok (.invokevirtual 67, 3) := by decide +kernel
theorem d_TmayGo_40 : decode b_TmayGo 40 = .ok (.iadd, 1) := by decide +kernel
theorem d_TmayGo_41 : decode b_TmayGo 41 = .ok (.bipush 8, 2) := by decide +kernel
theorem d_TmayGo_43 : decode b_TmayGo 43 = .ok (.if_icmp .gt 7, 3) := by decide +kernel
theorem d_TmayGo_46 : decode b_TmayGo 46 = .ok (.iconst 1, 1) := by decide +kernel
theorem d_TmayGo_47 : decode b_TmayGo 47 = .ok (.goto 4, 3) := by decide +kernel
theorem d_TmayGo_50 : decode b_TmayGo 50 = .ok (.iconst 0, 1) := by decide +kernel
theorem d_TmayGo_51 : decode b_TmayGo 51 = .ok (.ireturn, 1) := by decide +kernel
theorem d_PisWithin_0 : decode b_PisWithin 0 = .ok (.aload_n 0, 1) := by decide +kernel
theorem d_PisWithin_1 : decode b_PisWithin 1 = .ok (.astore_n 2, 1) := by decide +kernel
theorem d_PisWithin_2 : decode b_PisWithin 2 = .ok (.aload_n 2, 1) := by decide +kernel
theorem d_PisWithin_3 : decode b_PisWithin 3 = .ok (.ifnull 16, 3) := by decide +kernel
theorem d_PisWithin_6 : decode b_PisWithin 6 = .ok (.aload_n 2, 1) := by decide +kernel
theorem d_PisWithin_7 : decode b_PisWithin 7 = .ok (.aload_n 1, 1) := by decide +kernel
theorem d_PisWithin_8 : decode b_PisWithin 8 = .ok (.if_acmp .eq 11, 3) := by decide +kernel
theorem d_PisWithin_11 : decode b_PisWithin 11 = .ok (.aload_n 2, 1) := by decide +kernel
theorem d_PisWithin_12 : decode b_PisWithin 12 = .ok (.getfield 24, 3) := by decide +kernel
theorem d_PisWithin_15 : decode b_PisWithin 15 = .ok (.astore_n 2, 1) := by decide +kernel
theorem d_PisWithin_16 : decode b_PisWithin 16 = .ok (.goto (-14), 3) := by decide +kernel
theorem d_PisWithin_19 : decode b_PisWithin 19 = .ok (.aload_n 2, 1) := by decide +kernel
theorem d_PisWithin_20 : decode b_PisWithin 20 = .ok (.aload_n 1, 1) := by decide +kernel
theorem d_PisWithin_21 : decode b_PisWithin 21 = .ok (.if_acmp .ne 7, 3) := by decide +kernel
theorem d_PisWithin_24 : decode b_PisWithin 24 = .ok (.iconst 1, 1) := by decide +kernel
theorem d_PisWithin_25 : decode b_PisWithin 25 = .ok (.goto 4, 3) := by decide +kernel
theorem d_PisWithin_28 : decode b_PisWithin 28 = .ok (.iconst 0, 1) := by decide +kernel
theorem d_PisWithin_29 : decode b_PisWithin 29 = .ok (.ireturn, 1) := by decide +kernel
theorem d_TisBelowBin_0 : decode b_TisBelowBin 0 = .ok (.aload_n 1, 1) := by decide +kernel
theorem d_TisBelowBin_1 : decode b_TisBelowBin 1 = .ok (.invokevirtual 52, 3) := by decide +kernel
theorem d_TisBelowBin_4 : decode b_TisBelowBin 4 = .ok (.aload_n 0, 1) := by decide +kernel
theorem d_TisBelowBin_5 : decode b_TisBelowBin 5 = .ok (.getfield 20, 3) := by decide +kernel
theorem d_TisBelowBin_8 : decode b_TisBelowBin 8 = .ok (.if_acmp .ne 7, 3) := by decide +kernel
theorem d_TisBelowBin_11 : decode b_TisBelowBin 11 = .ok (.iconst 1, 1) := by decide +kernel
theorem d_TisBelowBin_12 : decode b_TisBelowBin 12 = .ok (.goto 4, 3) := by decide +kernel
theorem d_TisBelowBin_15 : decode b_TisBelowBin 15 = .ok (.iconst 0, 1) := by decide +kernel
theorem d_TisBelowBin_16 : decode b_TisBelowBin 16 = .ok (.ireturn, 1) := by decide +kernel
theorem d_Ptop_0 : decode b_Ptop 0 = .ok (.aload_n 0, 1) := by decide +kernel
theorem d_Ptop_1 : decode b_Ptop 1 = .ok (.getfield 24, 3) := by decide +kernel
theorem d_Ptop_4 : decode b_Ptop 4 = .ok (.ifnonnull 7, 3) := by decide +kernel
theorem d_Ptop_7 : decode b_Ptop 7 = .ok (.aload_n 0, 1) := by decide +kernel
theorem d_Ptop_8 : decode b_Ptop 8 = .ok (.goto 10, 3) := by decide +kernel
theorem d_Ptop_11 : decode b_Ptop 11 = .ok (.aload_n 0, 1) := by decide +kernel
theorem d_Ptop_12 : decode b_Ptop 12 = .ok (.getfield 24, 3) := by decide +kernel
theorem d_Ptop_15 : decode b_Ptop 15 = .ok (.invokevirtual 44, 3) := by decide +kernel
theorem d_Ptop_18 : decode b_Ptop 18 = .ok (.areturn, 1) := by decide +kernel
theorem d_Pdepth_0 : decode b_Pdepth 0 = .ok (.aload_n 0, 1) := by decide +kernel
theorem d_Pdepth_1 : decode b_Pdepth 1 = .ok (.getfield 24, 3) := by decide +kernel
theorem d_Pdepth_4 : decode b_Pdepth 4 = .ok (.ifnonnull 7, 3) := by decide +kernel
theorem d_Pdepth_7 : decode b_Pdepth 7 = .ok (.iconst 0, 1) := by decide +kernel
theorem d_Pdepth_8 : decode b_Pdepth 8 = .ok (.goto 12, 3) := by decide +kernel
theorem d_Pdepth_11 : decode b_Pdepth 11 = .ok (.iconst 1, 1) := by decide +kernel
theorem d_Pdepth_12 : decode b_Pdepth 12 = .ok (.aload_n 0, 1) := by decide +kernel
theorem d_Pdepth_13 : decode b_Pdepth 13 = .ok (.getfield 24, 3) := by decide +kernel
theorem d_Pdepth_16 : decode b_Pdepth 16 = .ok (.invokevirtual 28, 3) := by decide +kernel
theorem d_Pdepth_19 : decode b_Pdepth 19 = .ok (.iadd, 1) := by decide +kernel
theorem d_Pdepth_20 : decode b_Pdepth 20 = .ok (.ireturn, 1) := by decide +kernel
theorem d_Pheight_0 : decode b_Pheight 0 = .ok (.iconst 0, 1) := by decide +kernel
theorem d_Pheight_1 : decode b_Pheight 1 = .ok (.istore_n 1, 1) := by decide +kernel
theorem d_Pheight_2 : decode b_Pheight 2 = .ok (.iconst 0, 1) := by decide +kernel
theorem d_Pheight_3 : decode b_Pheight 3 = .ok (.istore_n 2, 1) := by decide +kernel
theorem d_Pheight_4 : decode b_Pheight 4 = .ok (.iload_n 2, 1) := by decide +kernel
theorem d_Pheight_5 : decode b_Pheight 5 = .ok (.aload_n 0, 1) := by decide +kernel
theorem d_Pheight_6 : decode b_Pheight 6 = .ok (.getfield 10, 3) := by decide +kernel
theorem d_Pheight_9 : decode b_Pheight 9 = .ok (.invokevirtual 32, 3) := by decide +kernel
theorem d_Pheight_12 : decode b_Pheight 12 = .ok (.if_icmp .ge 30, 3) := by decide +kernel
theorem d_Pheight_15 : decode b_Pheight 15 = .ok (.iload_n 1, 1) := by decide +kernel
theorem d_Pheight_16 : decode b_Pheight 16 = .ok (.iconst 1, 1) := by decide +kernel
theorem d_Pheight_17 : decode b_Pheight 17 = .ok (.aload_n 0, 1) := by decide +kernel
theorem d_Pheight_18 : decode b_Pheight 18 = .ok (.getfield 10, 3) := by decide +kernel
theorem d_Pheight_21 : decode b_Pheight 21 = .ok (.iload_n 2, 1) := by decide +kernel
theorem d_Pheight_22 : decode b_Pheight 22 = .ok (.invokevirtual 20, 3) := by decide +kernel
theorem d_Pheight_25 : decode b_Pheight 25 = .ok (.checkcast 11, 3) := by decide +kernel
theorem d_Pheight_28 : decode b_Pheight 28 = .ok (.invokevirtual 35, 3) := by decide +kernel
theorem d_Pheight_31 : decode b_Pheight 31 = .ok (.iadd, 1) := by decide +kernel
theorem d_Pheight_32 : decode b_Pheight 32 = .ok (.invokestatic 38, 3) := by decide +kernel
theorem d_Pheight_35 : decode b_Pheight 35 = .ok (.istore_n 1, 1) := by decide +kernel
theorem d_Pheight_36 : decode b_Pheight 36 = .ok (.iinc 2 1, 3) := by decide +kernel
theorem d_Pheight_39 : decode b_Pheight 39 = .ok (.goto (-35), 3) := by decide +kernel
theorem d_Pheight_42 : decode b_Pheight 42 = .ok (.iload_n 1, 1) := by decide +kernel
theorem d_Pheight_43 : decode b_Pheight 43 = .ok (.ireturn, 1) := by decide +kernel
theorem d_Rbehind_0 : decode b_Rbehind 0 = .ok (.aload_n 0, 1) := by decide +kernel
theorem d_Rbehind_1 : decode b_Rbehind 1 = .ok (.getfield 28, 3) := by decide +kernel
theorem d_Rbehind_4 : decode b_Rbehind 4 = .ok (.ireturn, 1) := by decide +kernel
theorem d_TisInBin_0 : decode b_TisInBin 0 = .ok (.aload_n 1, 1) := by decide +kernel
theorem d_TisInBin_1 : decode b_TisInBin 1 = .ok (.getfield 49, 3) := by decide +kernel
theorem d_TisInBin_4 : decode b_TisInBin 4 = .ok (.aload_n 0, 1) := by decide +kernel
theorem d_TisInBin_5 : decode b_TisInBin 5 = .ok (.getfield 20, 3) := by decide +kernel
theorem d_TisInBin_8 : decode b_TisInBin 8 = .ok (.if_acmp .ne 7, 3) := by decide +kernel
theorem d_TisInBin_11 : decode b_TisInBin 11 = .ok (.iconst 1, 1) := by decide +kernel
theorem d_TisInBin_12 : decode b_TisInBin 12 = .ok (.goto 4, 3) := by decide +kernel
theorem d_TisInBin_15 : decode b_TisInBin 15 = .ok (.iconst 0, 1) := by decide +kernel
theorem d_TisInBin_16 : decode b_TisInBin 16 = .ok (.ireturn, 1) := by decide +kernel
theorem d_Trestore_0 : decode b_Trestore 0 = .ok (.aload_n 2, 1) := by decide +kernel
theorem d_Trestore_1 : decode b_Trestore 1 = .ok (.getfield 45, 3) := by decide +kernel
theorem d_Trestore_4 : decode b_Trestore 4 = .ok (.ifCond .eq 11, 3) := by decide +kernel
theorem d_Trestore_7 : decode b_Trestore 7 = .ok (.aload_n 0, 1) := by decide +kernel
theorem d_Trestore_8 : decode b_Trestore 8 = .ok (.aload_n 2, 1) := by decide +kernel
theorem d_Trestore_9 : decode b_Trestore 9 = .ok (.invokevirtual 132, 3) := by decide +kernel
theorem d_Trestore_12 : decode b_Trestore 12 = .ok (.ifCond .ne 4, 3) := by decide +kernel
theorem d_Trestore_15 : decode b_Trestore 15 = .ok (.return_, 1) := by decide +kernel
theorem d_Trestore_16 : decode b_Trestore 16 = .ok (.aload_n 0, 1) := by decide +kernel
theorem d_Trestore_17 : decode b_Trestore 17 = .ok (.aload_n 2, 1) := by decide +kernel
theorem d_Trestore_18 : decode b_Trestore 18 = .ok (.aload_n 2, 1) := by decide +kernel
theorem d_Trestore_19 : decode b_Trestore 19 = .ok (.getfield 92, 3) := by decide +kernel
theorem d_Trestore_22 : decode b_Trestore 22 = .ok (.invokevirtual 142, 3) := by decide +kernel
theorem d_Trestore_25 : decode b_Trestore 25 = .ok (.ifCond .eq 10, 3) := by decide +kernel
theorem d_Trestore_28 : decode b_Trestore 28 = .ok (.aload_n 2, 1) := by decide +kernel
theorem d_Trestore_29 : decode b_Trestore 29 = .ok (.getfield 92, 3) := by decide +kernel
theorem d_Trestore_32 : decode b_Trestore 32 = .ok (.goto 9, 3) := by decide +kernel
theorem d_Trestore_35 : decode b_Trestore 35 = .ok (.aload_n 0, 1) := by decide +kernel
theorem d_Trestore_36 : decode b_Trestore 36 = .ok (.getfield 11, 3) := by decide +kernel
theorem d_Trestore_39 : decode b_Trestore 39 = .ok (.iconst 0, 1) := by decide +kernel
theorem d_Trestore_40 : decode b_Trestore 40 = .ok (.aaload, 1) := by decide +kernel
theorem d_Trestore_41 : decode b_Trestore 41 = .ok (.astore_n 3, 1) := by decide +kernel
theorem d_Trestore_42 : decode b_Trestore 42 = .ok (.aload_n 0, 1) := by decide +kernel
theorem d_Trestore_43 : decode b_Trestore 43 = .ok (.aload_n 2, 1) := by decide +kernel
theorem d_Trestore_44 : decode b_Trestore 44 = .ok (.aload_n 3, 1) := by decide +kernel
theorem d_Trestore_45 : decode b_Trestore 45 = .ok (.invokevirtual 142, 3) := by decide +kernel
theorem d_Trestore_48 : decode b_Trestore 48 = .ok (.ifCond .ne 4, 3) := by decide +kernel
theorem d_Trestore_51 : decode b_Trestore 51 = .ok (.return_, 1) := by decide +kernel
theorem d_Trestore_52 : decode b_Trestore 52 = .ok (.aload_n 0, 1) := by decide +kernel
theorem d_Trestore_53 : decode b_Trestore 53 = .ok (.aload_n 1, 1) := by decide +kernel
theorem d_Trestore_54 : decode b_Trestore 54 = .ok (.aload_n 2, 1) := by decide +kernel
theorem d_Trestore_55 : decode b_Trestore 55 = .ok (.invokevirtual 114, 3) := by decide +kernel
theorem d_Trestore_58 : decode b_Trestore 58 = .ok (.aload_n 0, 1) := by decide +kernel
theorem d_Trestore_59 : decode b_Trestore 59 = .ok (.aload_n 2, 1) := by decide +kernel
theorem d_Trestore_60 : decode b_Trestore 60 = .ok (.invokevirtual 135, 3) := by decide +kernel
theorem d_Trestore_63 : decode b_Trestore 63 = .ok (.aload_n 0, 1) := by decide +kernel
theorem d_Trestore_64 : decode b_Trestore 64 = .ok (.aload_n 2, 1) := by decide +kernel
theorem d_Trestore_65 : decode b_Trestore 65 = .ok (.aload_n 3, 1) := by decide +kernel
theorem d_Trestore_66 : decode b_Trestore 66 = .ok (.aload_n 3, 1) := by decide +kernel
theorem d_Trestore_67 : decode b_Trestore 67 = .ok (.getfield 70, 3) := by decide +kernel
theorem d_Trestore_70 : decode b_Trestore 70 = .ok (.invokevirtual 118, 3) := by decide +kernel
theorem d_Trestore_73 : decode b_Trestore 73 = .ok (.invokevirtual 121, 3) := by decide +kernel
theorem d_Trestore_76 : decode b_Trestore 76 = .ok (.aload_n 2, 1) := by decide +kernel
theorem d_Trestore_77 : decode b_Trestore 77 = .ok (.aload_n 3, 1) := by decide +kernel
theorem d_Trestore_78 : decode b_Trestore 78 = .ok (.putfield 92, 3) := by decide +kernel
theorem d_Trestore_81 : decode b_Trestore 81 = .ok (.return_, 1) := by decide +kernel
theorem d_TplaceOf_0 : decode b_TplaceOf 0 = .ok (.aload_n 0, 1) := by decide +kernel
theorem d_TplaceOf_1 : decode b_TplaceOf 1 = .ok (.getfield 27, 3) := by decide +kernel
theorem d_TplaceOf_4 : decode b_TplaceOf 4 = .ok (.invokevirtual 118, 3) := by decide +kernel
theorem d_TplaceOf_7 : decode b_TplaceOf 7 = .ok (.istore_n 2, 1) := by decide +kernel
theorem d_TplaceOf_8 : decode b_TplaceOf 8 = .ok (.iload_n 2, 1) := by decide +kernel
theorem d_TplaceOf_9 : decode b_TplaceOf 9 = .ok (.ifCond .le 32, 3) := by decide +kernel
theorem d_TplaceOf_12 : decode b_TplaceOf 12 = .ok (.aload_n 0, 1) := by decide +kernel
theorem d_TplaceOf_13 : decode b_TplaceOf 13 = .ok (.getfield 27, 3) := by decide +kernel
theorem d_TplaceOf_16 : decode b_TplaceOf 16 = .ok (.iload_n 2, 1) := by decide +kernel
theorem d_TplaceOf_17 : decode b_TplaceOf 17 = .ok (.iconst 1, 1) := by decide +kernel
theorem d_TplaceOf_18 : decode b_TplaceOf 18 = .ok (.isub, 1) := by decide +kernel
theorem d_TplaceOf_19 : decode b_TplaceOf 19 = .ok (.invokevirtual 151, 3) := by decide +kernel
theorem d_TplaceOf_22 : decode b_TplaceOf 22 = .ok (.checkcast 31, 3) := by decide +kernel
theorem d_TplaceOf_25 : decode b_TplaceOf 25 = .ok (.getfield 102, 3) := by decide +kernel
theorem d_TplaceOf_28 : decode b_TplaceOf 28 = .ok (.aload_n 1, 1) := by decide +kernel
theorem d_TplaceOf_29 : decode b_TplaceOf 29 = .ok (.invokevirtual 154, 3) := by decide +kernel
theorem d_TplaceOf_32 : decode b_TplaceOf 32 = .ok (.ifCond .ne 9, 3) := by decide +kernel
theorem d_TplaceOf_35 : decode b_TplaceOf 35 = .ok (.iinc 2 (-1), 3) := by decide +kernel
theorem d_TplaceOf_38 : decode b_TplaceOf 38 = .ok (.goto (-30), 3) := by decide +kernel
theorem d_TplaceOf_41 : decode b_TplaceOf 41 = .ok (.iload_n 2, 1) := by decide +kernel
theorem d_TplaceOf_42 : decode b_TplaceOf 42 = .ok (.ireturn, 1) := by decide +kernel
theorem d_RisBefore_0 : decode b_RisBefore 0 = .ok (.aload_n 0, 1) := by decide +kernel
theorem d_RisBefore_1 : decode b_RisBefore 1 = .ok (.getfield 16, 3) := by decide +kernel
theorem d_RisBefore_4 : decode b_RisBefore 4 = .ok (.aload_n 1, 1) := by decide +kernel
theorem d_RisBefore_5 : decode b_RisBefore 5 = .ok (.getfield 16, 3) := by decide +kernel
theorem d_RisBefore_8 : decode b_RisBefore 8 = .ok (.if_icmp .eq 22, 3) := by decide +kernel
theorem d_RisBefore_11 : decode b_RisBefore 11 = .ok (.aload_n 0, 1) := by decide +kernel
theorem d_RisBefore_12 : decode b_RisBefore 12 = .ok (.getfield 16, 3) := by decide +kernel
theorem d_RisBefore_15 : decode b_RisBefore 15 = .ok (.aload_n 1, 1) := by decide +kernel
theorem d_RisBefore_16 : decode b_RisBefore 16 = .ok (.getfield 16, 3) := by decide +kernel
theorem d_RisBefore_19 : decode b_RisBefore 19 = .ok (.if_icmp .ge 7, 3) := by decide +kernel
theorem d_RisBefore_22 : decode b_RisBefore 22 = .ok (.iconst 1, 1) := by decide +kernel
theorem d_RisBefore_23 : decode b_RisBefore 23 = .ok (.goto 23, 3) := by decide +kernel
theorem d_RisBefore_26 : decode b_RisBefore 26 = .ok (.iconst 0, 1) := by decide +kernel
theorem d_RisBefore_27 : decode b_RisBefore 27 = .ok (.goto 19, 3) := by decide +kernel
theorem d_RisBefore_30 : decode b_RisBefore 30 = .ok (.aload_n 0, 1) := by decide +kernel
theorem d_RisBefore_31 : decode b_RisBefore 31 = .ok (.getfield 13, 3) := by decide +kernel
theorem d_RisBefore_34 : decode b_RisBefore 34 = .ok (.aload_n 1, 1) := by decide +kernel
theorem d_RisBefore_35 : decode b_RisBefore 35 = .ok (.getfield 13, 3) := by decide +kernel
theorem d_RisBefore_38 : decode b_RisBefore 38 = .ok (.if_icmp .ge 7, 3) := by decide +kernel
theorem d_RisBefore_41 : decode b_RisBefore 41 = .ok (.iconst 1, 1) := by decide +kernel
theorem d_RisBefore_42 : decode b_RisBefore 42 = .ok (.goto 4, 3) := by decide +kernel
theorem d_RisBefore_45 : decode b_RisBefore 45 = .ok (.iconst 0, 1) := by decide +kernel
theorem d_RisBefore_46 : decode b_RisBefore 46 = .ok (.ireturn, 1) := by decide +kernel
theorem d_Tjudge_0 : decode b_Tjudge 0 = .ok (.aload_n 0, 1) := by decide +kernel
theorem d_Tjudge_1 : decode b_Tjudge 1 = .ok (.getfield 27, 3) := by decide +kernel
theorem d_Tjudge_4 : decode b_Tjudge 4 = .ok (.invokevirtual 118, 3) := by decide +kernel
theorem d_Tjudge_7 : decode b_Tjudge 7 = .ok (.iconst 1, 1) := by decide +kernel
theorem d_Tjudge_8 : decode b_Tjudge 8 = .ok (.isub, 1) := by decide +kernel
theorem d_Tjudge_9 : decode b_Tjudge 9 = .ok (.istore_n 3, 1) := by decide +kernel
theorem d_Tjudge_10 : decode b_Tjudge 10 = .ok (.iload_n 3, 1) := by decide +kernel
theorem d_Tjudge_11 : decode b_Tjudge 11 = .ok (.iload_n 1, 1) := by decide +kernel
theorem d_Tjudge_12 : decode b_Tjudge 12 = .ok (.if_icmp .lt 24, 3) := by decide +kernel
theorem d_Tjudge_15 : decode b_Tjudge 15 = .ok (.aload_n 0, 1) := by decide +kernel
theorem d_Tjudge_16 : decode b_Tjudge 16 = .ok (.aload_n 0, 1) := by decide +kernel
theorem d_Tjudge_17 : decode b_Tjudge 17 = .ok (.getfield 27, 3) := by decide +kernel
theorem d_Tjudge_20 : decode b_Tjudge 20 = .ok (.iload_n 3, 1) := by decide +kernel
theorem d_Tjudge_21 : decode b_Tjudge 21 = .ok (.invokevirtual 151, 3) := by decide +kernel
theorem d_Tjudge_24 : decode b_Tjudge 24 = .ok (.checkcast 31, 3) := by decide +kernel
theorem d_Tjudge_27 : decode b_Tjudge 27 = .ok (.invokevirtual 158, 3) := by decide +kernel
theorem d_Tjudge_30 : decode b_Tjudge 30 = .ok (.iinc 3 (-1), 3) := by decide +kernel
theorem d_Tjudge_33 : decode b_Tjudge 33 = .ok (.goto (-23), 3) := by decide +kernel
theorem d_Tjudge_36 : decode b_Tjudge 36 = .ok (.aload_n 2, 1) := by decide +kernel
theorem d_Tjudge_37 : decode b_Tjudge 37 = .ok (.ifnull 12, 3) := by decide +kernel
theorem d_Tjudge_40 : decode b_Tjudge 40 = .ok (.aload_n 0, 1) := by decide +kernel
theorem d_Tjudge_41 : decode b_Tjudge 41 = .ok (.getfield 27, 3) := by decide +kernel
theorem d_Tjudge_44 : decode b_Tjudge 44 = .ok (.iload_n 1, 1) := by decide +kernel
theorem d_Tjudge_45 : decode b_Tjudge 45 = .ok (.aload_n 2, 1) := by decide +kernel
theorem d_Tjudge_46 : decode b_Tjudge 46 = .ok (.invokevirtual 81, 3) := by decide +kernel
theorem d_Tjudge_49 : decode b_Tjudge 49 = .ok (.iload_n 1, 1) := by decide +kernel
theorem d_Tjudge_50 : decode b_Tjudge 50 = .ok (.istore_n 3, 1) := by decide +kernel
theorem d_Tjudge_51 : decode b_Tjudge 51 = .ok (.iload_n 3, 1) := by decide +kernel
theorem d_Tjudge_52 : decode b_Tjudge 52 = .ok (.aload_n 0, 1) := by decide +kernel
theorem d_Tjudge_53 : decode b_Tjudge 53 = .ok (.getfield 27, 3) := by decide +kernel
theorem d_Tjudge_56 : decode b_Tjudge 56 = .ok (.invokevirtual 118, 3) := by decide +kernel
theorem d_Tjudge_59 : decode b_Tjudge 59 = .ok (.if_icmp .ge 24, 3) := by decide +kernel
theorem d_Tjudge_62 : decode b_Tjudge 62 = .ok (.aload_n 0, 1) := by decide +kernel
theorem d_Tjudge_63 : decode b_Tjudge 63 = .ok (.aload_n 0, 1) := by decide +kernel
theorem d_Tjudge_64 : decode b_Tjudge 64 = .ok (.getfield 27, 3) := by decide +kernel
theorem d_Tjudge_67 : decode b_Tjudge 67 = .ok (.iload_n 3, 1) := by decide +kernel
theorem d_Tjudge_68 : decode b_Tjudge 68 = .ok (.invokevirtual 151, 3) := by decide +kernel
theorem d_Tjudge_71 : decode b_Tjudge 71 = .ok (.checkcast 31, 3) := by decide +kernel
theorem d_Tjudge_74 : decode b_Tjudge 74 = .ok (.invokevirtual 162, 3) := by decide +kernel
theorem d_Tjudge_77 : decode b_Tjudge 77 = .ok (.iinc 3 1, 3) := by decide +kernel
theorem d_Tjudge_80 : decode b_Tjudge 80 = .ok (.goto (-29), 3) := by decide +kernel
theorem d_Tjudge_83 : decode b_Tjudge 83 = .ok (.aload_n 0, 1) := by decide +kernel
theorem d_Tjudge_84 : decode b_Tjudge 84 = .ok (.aload_n 0, 1) := by decide +kernel
theorem d_Tjudge_85 : decode b_Tjudge 85 = .ok (.getfield 27, 3) := by decide +kernel
theorem d_Tjudge_88 : decode b_Tjudge 88 = .ok (.invokevirtual 118, 3) := by decide +kernel
theorem d_Tjudge_91 : decode b_Tjudge 91 = .ok (.iload_n 1, 1) := by decide +kernel
theorem d_Tjudge_92 : decode b_Tjudge 92 = .ok (.isub, 1) := by decide +kernel
theorem d_Tjudge_93 : decode b_Tjudge 93 = .ok (.putfield 165, 3) := by decide +kernel
theorem d_Tjudge_96 : decode b_Tjudge 96 = .ok (.return_, 1) := by decide +kernel
theorem d_Bmove_0 : decode b_Bmove 0 = .ok (.aload_n 0, 1) := by decide +kernel
theorem d_Bmove_1 : decode b_Bmove 1 = .ok (.iload_n 1, 1) := by decide +kernel
theorem d_Bmove_2 : decode b_Bmove 2 = .ok (.iload_n 2, 1) := by decide +kernel
theorem d_Bmove_3 : decode b_Bmove 3 = .ok (.invokevirtual 63, 3) := by decide +kernel
theorem d_Bmove_6 : decode b_Bmove 6 = .ok (.ifCond .eq 32, 3) := by decide +kernel
theorem d_Bmove_9 : decode b_Bmove 9 = .ok (.iload_n 3, 1) := by decide +kernel
theorem d_Bmove_10 : decode b_Bmove 10 = .ok (.aload_n 0, 1) := by decide +kernel
theorem d_Bmove_11 : decode b_Bmove 11 = .ok (.getfield 26, 3) := by decide +kernel
theorem d_Bmove_14 : decode b_Bmove 14 = .ok (.invokestatic 56, 3) := by decide +kernel
theorem d_Bmove_17 : decode b_Bmove 17 = .ok (.ifCond .eq 21, 3) := by decide +kernel
theorem d_Bmove_20 : decode b_Bmove 20 = .ok (.iload 4, 2) := by decide +kernel
theorem d_Bmove_22 : decode b_Bmove 22 = .ok (.iconst (-1), 1) := by decide +kernel
theorem d_Bmove_23 : decode b_Bmove 23 = .ok (.if_icmp .eq 17, 3) := by decide +kernel
theorem d_Bmove_26 : decode b_Bmove 26 = .ok (.iload 4, 2) := by decide +kernel
theorem d_Bmove_28 : decode b_Bmove 28 = .ok (.aload_n 0, 1) := by decide +kernel
theorem d_Bmove_29 : decode b_Bmove 29 = .ok (.getfield 26, 3) := by decide +kernel
theorem d_Bmove_32 : decode b_Bmove 32 = .ok (.invokestatic 56, 3) := by decide +kernel
theorem d_Bmove_35 : decode b_Bmove 35 = .ok (.ifCond .ne 5, 3) := by decide +kernel
theorem d_Bmove_38 : decode b_Bmove 38 = .ok (.iconst (-1), 1) := by decide +kernel
theorem d_Bmove_39 : decode b_Bmove 39 = .ok (.ireturn, 1) := by decide +kernel
theorem d_Bmove_40 : decode b_Bmove 40 = .ok (.aload_n 0, 1) := by decide +kernel
theorem d_Bmove_41 : decode b_Bmove 41 = .ok (.iload_n 1, 1) := by decide +kernel
theorem d_Bmove_42 : decode b_Bmove 42 = .ok (.iconst 1, 1) := by decide +kernel
theorem d_Bmove_43 : decode b_Bmove 43 = .ok (.iload_n 2, 1) := by decide +kernel
theorem d_Bmove_44 : decode b_Bmove 44 = .ok (.iload_n 3, 1) := by decide +kernel
theorem d_Bmove_45 : decode b_Bmove 45 = .ok (.iload 4, 2) := by decide +kernel
theorem d_Bmove_47 : decode b_Bmove 47 = .ok (.invokevirtual 60, 3) := by decide +kernel
theorem d_Bmove_50 : decode b_Bmove 50 = .ok (.ireturn, 1) := by decide +kernel
theorem d_BmayAdd_0 : decode b_BmayAdd 0 = .ok (.iload_n 1, 1) := by decide +kernel
theorem d_BmayAdd_1 : decode b_BmayAdd 1 = .ok (.iconst 4, 1) := by decide +kernel
theorem d_BmayAdd_2 : decode b_BmayAdd 2 = .ok (.invokestatic 56, 3) := by decide +kernel
theorem d_BmayAdd_5 : decode b_BmayAdd 5 = .ok (.ifCond .eq 32, 3) := by decide +kernel
theorem d_BmayAdd_8 : decode b_BmayAdd 8 = .ok (.iload_n 2, 1) := by decide +kernel
theorem d_BmayAdd_9 : decode b_BmayAdd 9 = .ok (.ifCond .le 28, 3) := by decide +kernel
theorem d_BmayAdd_12 : decode b_BmayAdd 12 = .ok (.iload_n 2, 1) := by decide +kernel
theorem d_BmayAdd_13 : decode b_BmayAdd 13 = .ok (.aload_n 0, 1) := by decide +kernel
theorem d_BmayAdd_14 : decode b_BmayAdd 14 = .ok (.getfield 26, 3) := by decide +kernel
theorem d_BmayAdd_17 : decode b_BmayAdd 17 = .ok (.if_icmp .ge 20, 3) := by decide +kernel
theorem d_BmayAdd_20 : decode b_BmayAdd 20 = .ok (.aload_n 0, 1) := by decide +kernel
theorem d_BmayAdd_21 : decode b_BmayAdd 21 = .ok (.getfield 10, 3) := by decide +kernel
theorem d_BmayAdd_24 : decode b_BmayAdd 24 = .ok (.invokevirtual 33, 3) := by decide +kernel
theorem d_BmayAdd_27 : decode b_BmayAdd 27 = .ok (.sipush 300, 3) := by decide +kernel
theorem d_BmayAdd_30 : decode b_BmayAdd 30 = .ok (.if_icmp .ge 7, 3) := by decide +kernel
theorem d_BmayAdd_33 : decode b_BmayAdd 33 = .ok (.iconst 1, 1) := by decide +kernel
theorem d_BmayAdd_34 : decode b_BmayAdd 34 = .ok (.goto 4, 3) := by decide +kernel
theorem d_BmayAdd_37 : decode b_BmayAdd 37 = .ok (.iconst 0, 1) := by decide +kernel
theorem d_BmayAdd_38 : decode b_BmayAdd 38 = .ok (.ireturn, 1) := by decide +kernel
theorem d_Bremove_0 : decode b_Bremove 0 = .ok (.aload_n 0, 1) := by decide +kernel
theorem d_Bremove_1 : decode b_Bremove 1 = .ok (.iload_n 1, 1) := by decide +kernel
theorem d_Bremove_2 : decode b_Bremove 2 = .ok (.iload_n 2, 1) := by decide +kernel
theorem d_Bremove_3 : decode b_Bremove 3 = .ok (.invokevirtual 63, 3) := by decide +kernel
theorem d_Bremove_6 : decode b_Bremove 6 = .ok (.ifCond .eq 23, 3) := by decide +kernel
theorem d_Bremove_9 : decode b_Bremove 9 = .ok (.aload_n 0, 1) := by decide +kernel
theorem d_Bremove_10 : decode b_Bremove 10 = .ok (.iload_n 1, 1) := by decide +kernel
theorem d_Bremove_11 : decode b_Bremove 11 = .ok (.iload_n 3, 1) := by decide +kernel
theorem d_Bremove_12 : decode b_Bremove 12 = .ok (.ifCond .eq 7, 3) := by decide +kernel
theorem d_Bremove_15 : decode b_Bremove 15 = .ok (.iconst 3, 1) := by decide +kernel
theorem d_Bremove_16 : decode b_Bremove 16 = .ok (.goto 4, 3) := by decide +kernel
theorem d_Bremove_19 : decode b_Bremove 19 = .ok (.iconst 2, 1) := by decide +kernel
theorem d_Bremove_20 : decode b_Bremove 20 = .ok (.iload_n 2, 1) := by decide +kernel
theorem d_Bremove_21 : decode b_Bremove 21 = .ok (.iconst (-1), 1) := by decide +kernel
theorem d_Bremove_22 : decode b_Bremove 22 = .ok (.iconst (-1), 1) := by decide +kernel
theorem d_Bremove_23 : decode b_Bremove 23 = .ok (.invokevirtual 60, 3) := by decide +kernel
theorem d_Bremove_26 : decode b_Bremove 26 = .ok (.goto 4, 3) := by decide +kernel
theorem d_Bremove_29 : decode b_Bremove 29 = .ok (.iconst (-1), 1) := by decide +kernel
theorem d_Bremove_30 : decode b_Bremove 30 = .ok (.ireturn, 1) := by decide +kernel
theorem d_Bundo_0 : decode b_Bundo 0 = .ok (.iload_n 1, 1) := by decide +kernel
theorem d_Bundo_1 : decode b_Bundo 1 = .ok (.iconst 4, 1) := by decide +kernel
theorem d_Bundo_2 : decode b_Bundo 2 = .ok (.invokestatic 56, 3) := by decide +kernel
theorem d_Bundo_5 : decode b_Bundo 5 = .ok (.ifCond .eq 24, 3) := by decide +kernel
theorem d_Bundo_8 : decode b_Bundo 8 = .ok (.aload_n 0, 1) := by decide +kernel
theorem d_Bundo_9 : decode b_Bundo 9 = .ok (.iload_n 2, 1) := by decide +kernel
theorem d_Bundo_10 : decode b_Bundo 10 = .ok (.invokevirtual 66, 3) := by decide +kernel
theorem d_Bundo_13 : decode b_Bundo 13 = .ok (.ifCond .eq 16, 3) := by decide +kernel
theorem d_Bundo_16 : decode b_Bundo 16 = .ok (.aload_n 0, 1) := by decide +kernel
theorem d_Bundo_17 : decode b_Bundo 17 = .ok (.getfield 10, 3) := by decide +kernel
theorem d_Bundo_20 : decode b_Bundo 20 = .ok (.invokevirtual 33, 3) := by decide +kernel
theorem d_Bundo_23 : decode b_Bundo 23 = .ok (.sipush 300, 3) := by decide +kernel
theorem d_Bundo_26 : decode b_Bundo 26 = .ok (.if_icmp .ne 5, 3) := by decide +kernel
theorem d_Bundo_29 : decode b_Bundo 29 = .ok (.iconst (-1), 1) := by decide +kernel
theorem d_Bundo_30 : decode b_Bundo 30 = .ok (.ireturn, 1) := by decide +kernel
theorem d_Bundo_31 : decode b_Bundo 31 = .ok (.aload_n 0, 1) := by decide +kernel
theorem d_Bundo_32 : decode b_Bundo 32 = .ok (.getfield 10, 3) := by decide +kernel
theorem d_Bundo_35 : decode b_Bundo 35 = .ok (.iload_n 2, 1) := by decide +kernel
theorem d_Bundo_36 : decode b_Bundo 36 = .ok (.iconst 1, 1) := by decide +kernel
theorem d_Bundo_37 : decode b_Bundo 37 = .ok (.isub, 1) := by decide +kernel
theorem d_Bundo_38 : decode b_Bundo 38 = .ok (.invokevirtual 70, 3) := by decide +kernel
theorem d_Bundo_41 : decode b_Bundo 41 = .ok (.checkcast 37, 3) := by decide +kernel
theorem d_Bundo_44 : decode b_Bundo 44 = .ok (.astore_n 3, 1) := by decide +kernel
theorem d_Bundo_45 : decode b_Bundo 45 = .ok (.aload_n 3, 1) := by decide +kernel
theorem d_Bundo_46 : decode b_Bundo 46 = .ok (.invokevirtual 74, 3) := by decide +kernel
theorem d_Bundo_49 : decode b_Bundo 49 = .ok (.iload_n 1, 1) := by decide +kernel
theorem d_Bundo_50 : decode b_Bundo 50 = .ok (.if_icmp .ne 28, 3) := by decide +kernel
theorem d_Bundo_53 : decode b_Bundo 53 = .ok (.aload_n 3, 1) := by decide +kernel
theorem d_Bundo_54 : decode b_Bundo 54 = .ok (.invokevirtual 77, 3) := by decide +kernel
theorem d_Bundo_57 : decode b_Bundo 57 = .ok (.iconst 1, 1) := by decide +kernel
theorem d_Bundo_58 : decode b_Bundo 58 = .ok (.if_icmp .lt 20, 3) := by decide +kernel
theorem d_Bundo_61 : decode b_Bundo 61 = .ok (.aload_n 3, 1) := by decide +kernel
theorem d_Bundo_62 : decode b_Bundo 62 = .ok (.invokevirtual 77, 3) := by decide +kernel
theorem d_Bundo_65 : decode b_Bundo 65 = .ok (.iconst 3, 1) := by decide +kernel
theorem d_Bundo_66 : decode b_Bundo 66 = .ok (.if_icmp .gt 12, 3) := by decide +kernel
theorem d_Bundo_69 : decode b_Bundo 69 = .ok (.aload_n 0, 1) := by decide +kernel
theorem d_Bundo_70 : decode b_Bundo 70 = .ok (.getfield 22, 3) := by decide +kernel
theorem d_Bundo_73 : decode b_Bundo 73 = .ok (.iload_n 2, 1) := by decide +kernel
theorem d_Bundo_74 : decode b_Bundo 74 = .ok (.baload, 1) := by decide +kernel
theorem d_Bundo_75 : decode b_Bundo 75 = .ok (.ifCond .eq 5, 3) := by decide +kernel
theorem d_Bundo_78 : decode b_Bundo 78 = .ok (.iconst (-1), 1) := by decide +kernel
theorem d_Bundo_79 : decode b_Bundo 79 = .ok (.ireturn, 1) := by decide +kernel
theorem d_Bundo_80 : decode b_Bundo 80 = .ok (.aload_n 0, 1) := by decide +kernel
theorem d_Bundo_81 : decode b_Bundo 81 = .ok (.getfield 22, 3) := by decide +kernel
theorem d_Bundo_84 : decode b_Bundo 84 = .ok (.iload_n 2, 1) := by decide +kernel
theorem d_Bundo_85 : decode b_Bundo 85 = .ok (.iconst 1, 1) := by decide +kernel
theorem d_Bundo_86 : decode b_Bundo 86 = .ok (.bastore, 1) := by decide +kernel
theorem d_Bundo_87 : decode b_Bundo 87 = .ok (.aload_n 0, 1) := by decide +kernel
theorem d_Bundo_88 : decode b_Bundo 88 = .ok (.iload_n 1, 1) := by decide +kernel
theorem d_Bundo_89 : decode b_Bundo 89 = .ok (.iconst 4, 1) := by decide +kernel
theorem d_Bundo_90 : decode b_Bundo 90 = .ok (.iload_n 2, 1) := by decide +kernel
theorem d_Bundo_91 : decode b_Bundo 91 = .ok (.iconst (-1), 1) := by decide +kernel
theorem d_Bundo_92 : decode b_Bundo 92 = .ok (.iconst (-1), 1) := by decide +kernel
theorem d_Bundo_93 : decode b_Bundo 93 = .ok (.invokevirtual 60, 3) := by decide +kernel
theorem d_Bundo_96 : decode b_Bundo 96 = .ok (.ireturn, 1) := by decide +kernel
theorem d_BisRow_0 : decode b_BisRow 0 = .ok (.iload_n 1, 1) := by decide +kernel
theorem d_BisRow_1 : decode b_BisRow 1 = .ok (.ifCond .le 18, 3) := by decide +kernel
theorem d_BisRow_4 : decode b_BisRow 4 = .ok (.iload_n 1, 1) := by decide +kernel
theorem d_BisRow_5 : decode b_BisRow 5 = .ok (.aload_n 0, 1) := by decide +kernel
theorem d_BisRow_6 : decode b_BisRow 6 = .ok (.getfield 10, 3) := by decide +kernel
theorem d_BisRow_9 : decode b_BisRow 9 = .ok (.invokevirtual 33, 3) := by decide +kernel
theorem d_BisRow_12 : decode b_BisRow 12 = .ok (.if_icmp .gt 7, 3) := by decide +kernel
theorem d_BisRow_15 : decode b_BisRow 15 = .ok (.iconst 1, 1) := by decide +kernel
theorem d_BisRow_16 : decode b_BisRow 16 = .ok (.goto 4, 3) := by decide +kernel
theorem d_BisRow_19 : decode b_BisRow 19 = .ok (.iconst 0, 1) := by decide +kernel
theorem d_BisRow_20 : decode b_BisRow 20 = .ok (.ireturn, 1) := by decide +kernel
theorem d_Rnode_0 : decode b_Rnode 0 = .ok (.aload_n 0, 1) := by decide +kernel
theorem d_Rnode_1 : decode b_Rnode 1 = .ok (.getfield 13, 3) := by decide +kernel
theorem d_Rnode_4 : decode b_Rnode 4 = .ok (.ireturn, 1) := by decide +kernel
theorem d_Bsee_0 : decode b_Bsee 0 = .ok (.iload_n 1, 1) := by decide +kernel
theorem d_Bsee_1 : decode b_Bsee 1 = .ok (.iconst 4, 1) := by decide +kernel
theorem d_Bsee_2 : decode b_Bsee 2 = .ok (.invokestatic 56, 3) := by decide +kernel
theorem d_Bsee_5 : decode b_Bsee 5 = .ok (.ifCond .eq 25, 3) := by decide +kernel
theorem d_Bsee_8 : decode b_Bsee 8 = .ok (.aload_n 0, 1) := by decide +kernel
theorem d_Bsee_9 : decode b_Bsee 9 = .ok (.iload_n 2, 1) := by decide +kernel
theorem d_Bsee_10 : decode b_Bsee 10 = .ok (.invokevirtual 66, 3) := by decide +kernel
theorem d_Bsee_13 : decode b_Bsee 13 = .ok (.ifCond .eq 17, 3) := by decide +kernel
theorem d_Bsee_16 : decode b_Bsee 16 = .ok (.aload_n 0, 1) := by decide +kernel
theorem d_Bsee_17 : decode b_Bsee 17 = .ok (.getfield 18, 3) := by decide +kernel
theorem d_Bsee_20 : decode b_Bsee 20 = .ok (.iload_n 1, 1) := by decide +kernel
theorem d_Bsee_21 : decode b_Bsee 21 = .ok (.aaload, 1) := by decide +kernel
theorem d_Bsee_22 : decode b_Bsee 22 = .ok (.getfield 80, 3) := by decide +kernel
theorem d_Bsee_25 : decode b_Bsee 25 = .ok (.iload_n 2, 1) := by decide +kernel
theorem d_Bsee_26 : decode b_Bsee 26 = .ok (.aaload, 1) := by decide +kernel
theorem d_Bsee_27 : decode b_Bsee 27 = .ok (.ifnull 5, 3) := by decide +kernel
theorem d_Bsee_30 : decode b_Bsee 30 = .ok (.iconst (-1), 1) := by decide +kernel
theorem d_Bsee_31 : decode b_Bsee 31 = .ok (.ireturn, 1) := by decide +kernel
theorem d_Bsee_32 : decode b_Bsee 32 = .ok (.aload_n 0, 1) := by decide +kernel
theorem d_Bsee_33 : decode b_Bsee 33 = .ok (.getfield 18, 3) := by decide +kernel
theorem d_Bsee_36 : decode b_Bsee 36 = .ok (.iload_n 1, 1) := by decide +kernel
theorem d_Bsee_37 : decode b_Bsee 37 = .ok (.aaload, 1) := by decide +kernel
theorem d_Bsee_38 : decode b_Bsee 38 = .ok (.aload_n 0, 1) := by decide +kernel
theorem d_Bsee_39 : decode b_Bsee 39 = .ok (.getfield 10, 3) := by decide +kernel
theorem d_Bsee_42 : decode b_Bsee 42 = .ok (.iload_n 2, 1) := by decide +kernel
theorem d_Bsee_43 : decode b_Bsee 43 = .ok (.iconst 1, 1) := by decide +kernel
theorem d_Bsee_44 : decode b_Bsee 44 = .ok (.isub, 1) := by decide +kernel
theorem d_Bsee_45 : decode b_Bsee 45 = .ok (.invokevirtual 70, 3) := by decide +kernel
theorem d_Bsee_48 : decode b_Bsee 48 = .ok (.checkcast 37, 3) := by decide +kernel
theorem d_Bsee_51 : decode b_Bsee 51 = .ok (.invokevirtual 49, 3) := by decide +kernel
theorem d_Bsee_54 : decode b_Bsee 54 = .ok (.aload_n 0, 1) := by decide +kernel
theorem d_Bsee_55 : decode b_Bsee 55 = .ok (.getfield 18, 3) := by decide +kernel
theorem d_Bsee_58 : decode b_Bsee 58 = .ok (.iload_n 1, 1) := by decide +kernel
theorem d_Bsee_59 : decode b_Bsee 59 = .ok (.aaload, 1) := by decide +kernel
theorem d_Bsee_60 : decode b_Bsee 60 = .ok (.getfield 84, 3) := by decide +kernel
theorem d_Bsee_63 : decode b_Bsee 63 = .ok (.ireturn, 1) := by decide +kernel
theorem d_Bmeet_0 : decode b_Bmeet 0 = .ok (.iload_n 1, 1) := by decide +kernel
theorem d_Bmeet_1 : decode b_Bmeet 1 = .ok (.iconst 4, 1) := by decide +kernel
theorem d_Bmeet_2 : decode b_Bmeet 2 = .ok (.invokestatic 56, 3) := by decide +kernel
theorem d_Bmeet_5 : decode b_Bmeet 5 = .ok (.ifCond .eq 16, 3) := by decide +kernel
theorem d_Bmeet_8 : decode b_Bmeet 8 = .ok (.iload_n 2, 1) := by decide +kernel
theorem d_Bmeet_9 : decode b_Bmeet 9 = .ok (.iconst 4, 1) := by decide +kernel
theorem d_Bmeet_10 : decode b_Bmeet 10 = .ok (.invokestatic 56, 3) := by decide +kernel
theorem d_Bmeet_13 : decode b_Bmeet 13 = .ok (.ifCond .eq 8, 3) := by decide +kernel
theorem d_Bmeet_16 : decode b_Bmeet 16 = .ok (.iload_n 1, 1) := by decide +kernel
theorem d_Bmeet_17 : decode b_Bmeet 17 = .ok (.iload_n 2, 1) := by decide +kernel
theorem d_Bmeet_18 : decode b_Bmeet 18 = .ok (.if_icmp .ne 5, 3) := by decide +kernel
theorem d_Bmeet_21 : decode b_Bmeet 21 = .ok (.iconst (-1), 1) := by decide +kernel
theorem d_Bmeet_22 : decode b_Bmeet 22 = .ok (.ireturn, 1) := by decide +kernel
theorem d_Bmeet_23 : decode b_Bmeet 23 = .ok (.new 7, 3) := by decide +kernel
theorem d_Bmeet_26 : decode b_Bmeet 26 = .ok (.dup, 1) := by decide +kernel
theorem d_Bmeet_27 : decode b_Bmeet 27 = .ok (.invokespecial 9, 3) := by decide +kernel
theorem d_Bmeet_30 : decode b_Bmeet 30 = .ok (.astore_n 3, 1) := by decide +kernel
theorem d_Bmeet_31 : decode b_Bmeet 31 = .ok (.aload_n 0, 1) := by decide +kernel
theorem d_Bmeet_32 : decode b_Bmeet 32 = .ok (.getfield 10, 3) := by decide +kernel
theorem d_Bmeet_35 : decode b_Bmeet 35 = .ok (.invokevirtual 87, 3) := by decide +kernel
theorem d_Bmeet_38 : decode b_Bmeet 38 = .ok (.astore 4, 2) := by decide +kernel
theorem d_Bmeet_40 : decode b_Bmeet 40 = .ok (.aload 4, 2) := by decide +kernel
theorem d_Bmeet_42 : decode b_Bmeet 42 = .ok (.invokeinterface 91 1, 5) := by decide +kernel
theorem d_Bmeet_47 : decode b_Bmeet 47 = .ok (.ifCond .eq 101, 3) := by decide +kernel
theorem d_Bmeet_50 : decode b_Bmeet 50 = .ok (.aload 4, 2) := by decide +kernel
theorem d_Bmeet_52 : decode b_Bmeet 52 = .ok (.invokeinterface 97 1, 5) := by decide +kernel
theorem d_Bmeet_57 : decode b_Bmeet 57 = .ok (.checkcast 37, 3) := by decide +kernel
theorem d_Bmeet_60 : decode b_Bmeet 60 = .ok (.astore 5, 2) := by decide +kernel
theorem d_Bmeet_62 : decode b_Bmeet 62 = .ok (.aload_n 0, 1) := by decide +kernel
theorem d_Bmeet_63 : decode b_Bmeet 63 = .ok (.getfield 18, 3) := by decide +kernel
theorem d_Bmeet_66 : decode b_Bmeet 66 = .ok (.iload_n 2, 1) := by decide +kernel
theorem d_Bmeet_67 : decode b_Bmeet 67 = .ok (.aaload, 1) := by decide +kernel
theorem d_Bmeet_68 : decode b_Bmeet 68 = .ok (.getfield 80, 3) := by decide +kernel
theorem d_Bmeet_71 : decode b_Bmeet 71 = .ok (.aload 5, 2) := by decide +kernel
theorem d_Bmeet_73 : decode b_Bmeet 73 = .ok (.invokevirtual 53, 3) := by decide +kernel
theorem d_Bmeet_76 : decode b_Bmeet 76 = .ok (.aaload, 1) := by decide +kernel
theorem d_Bmeet_77 : decode b_Bmeet 77 = .ok (.ifnull (-37), 3) := by decide +kernel
theorem d_Bmeet_80 : decode b_Bmeet 80 = .ok (.aload_n 0, 1) := by decide +kernel
theorem d_Bmeet_81 : decode b_Bmeet 81 = .ok (.getfield 18, 3) := by decide +kernel
theorem d_Bmeet_84 : decode b_Bmeet 84 = .ok (.iload_n 1, 1) := by decide +kernel
theorem d_Bmeet_85 : decode b_Bmeet 85 = .ok (.aaload, 1) := by decide +kernel
theorem d_Bmeet_86 : decode b_Bmeet 86 = .ok (.getfield 80, 3) := by decide +kernel
theorem d_Bmeet_89 : decode b_Bmeet 89 = .ok (.aload 5, 2) := by decide +kernel
theorem d_Bmeet_91 : decode b_Bmeet 91 = .ok (.invokevirtual 53, 3) := by decide +kernel
theorem d_Bmeet_94 : decode b_Bmeet 94 = .ok (.aaload, 1) := by decide +kernel
theorem d_Bmeet_95 : decode b_Bmeet 95 = .ok (.ifnull 6, 3) := by decide +kernel
theorem d_Bmeet_98 : decode b_Bmeet 98 = .ok (.goto (-58), 3) := by decide +kernel
theorem d_Bmeet_101 : decode b_Bmeet 101 = .ok (.aload_n 3, 1) := by decide +kernel
theorem d_Bmeet_102 : decode b_Bmeet 102 = .ok (.invokevirtual 33, 3) := by decide +kernel
theorem d_Bmeet_105 : decode b_Bmeet 105 = .ok (.istore 6, 2) := by decide +kernel
theorem d_Bmeet_107 : decode b_Bmeet 107 = .ok (.iload 6, 2) := by decide +kernel
theorem d_Bmeet_109 : decode b_Bmeet 109 = .ok (.ifCond .le 28, 3) := by decide +kernel
theorem d_Bmeet_112 : decode b_Bmeet 112 = .ok (.aload 5, 2) := by decide +kernel
theorem d_Bmeet_114 : decode b_Bmeet 114 = .ok (.aload_n 3, 1) := by decide +kernel
theorem d_Bmeet_115 : decode b_Bmeet 115 = .ok (.iload 6, 2) := by decide +kernel
theorem d_Bmeet_117 : decode b_Bmeet 117 = .ok (.iconst 1, 1) := by decide +kernel
theorem d_Bmeet_118 : decode b_Bmeet 118 = .ok (.isub, 1) := by decide +kernel
theorem d_Bmeet_119 : decode b_Bmeet 119 = .ok (.invokevirtual 70, 3) := by decide +kernel
theorem d_Bmeet_122 : decode b_Bmeet 122 = .ok (.checkcast 37, 3) := by decide +kernel
theorem d_Bmeet_125 : decode b_Bmeet 125 = .ok (.invokevirtual 101, 3) := by decide +kernel
theorem d_Bmeet_128 : decode b_Bmeet 128 = .ok (.ifCond .eq 9, 3) := by decide +kernel
theorem d_Bmeet_131 : decode b_Bmeet 131 = .ok (.iinc 6 (-1), 3) := by decide +kernel
theorem d_Bmeet_134 : decode b_Bmeet 134 = .ok (.goto (-27), 3) := by decide +kernel
theorem d_Bmeet_137 : decode b_Bmeet 137 = .ok (.aload_n 3, 1) := by decide +kernel
theorem d_Bmeet_138 : decode b_Bmeet 138 = .ok (.iload 6, 2) := by decide +kernel
theorem d_Bmeet_140 : decode b_Bmeet 140 = .ok (.aload 5, 2) := by decide +kernel
theorem d_Bmeet_142 : decode b_Bmeet 142 = .ok (.invokevirtual 105, 3) := by decide +kernel
theorem d_Bmeet_145 : decode b_Bmeet 145 = .ok (.goto (-105), 3) := by decide +kernel
theorem d_Bmeet_148 : decode b_Bmeet 148 = .ok (.aload_n 3, 1) := by decide +kernel
theorem d_Bmeet_149 : decode b_Bmeet 149 = .ok (.invokevirtual 87, 3) := by decide +kernel
theorem d_Bmeet_152 : decode b_Bmeet 152 = .ok (.astore 4, 2) := by decide +kernel
theorem d_Bmeet_154 : decode b_Bmeet 154 = .ok (.aload 4, 2) := by decide +kernel
theorem d_Bmeet_156 : decode b_Bmeet 156 = .ok (.invokeinterface 91 1, 5) := by decide +kernel
theorem d_Bmeet_161 : decode b_Bmeet 161 = .ok (.ifCond .eq 29, 3) := by decide +kernel
theorem d_Bmeet_164 : decode b_Bmeet 164 = .ok (.aload 4, 2) := by decide +kernel
theorem d_Bmeet_166 : decode b_Bmeet 166 = .ok (.invokeinterface 97 1, 5) := by decide +kernel
theorem d_Bmeet_171 : decode b_Bmeet 171 = .ok (.checkcast 37, 3) := by decide +kernel
theorem d_Bmeet_174 : decode b_Bmeet 174 = .ok (.astore 5, 2) := by decide +kernel
theorem d_Bmeet_176 : decode b_Bmeet 176 = .ok (.aload_n 0, 1) := by decide +kernel
theorem d_Bmeet_177 : decode b_Bmeet 177 = .ok (.getfield 18, 3) := by decide +kernel
theorem d_Bmeet_180 : decode b_Bmeet 180 = .ok (.iload_n 1, 1) := by decide +kernel
theorem d_Bmeet_181 : decode b_Bmeet 181 = .ok (.aaload, 1) := by decide +kernel
theorem d_Bmeet_182 : decode b_Bmeet 182 = .ok (.aload 5, 2) := by decide +kernel
theorem d_Bmeet_184 : decode b_Bmeet 184 = .ok (.invokevirtual 49, 3) := by decide +kernel
theorem d_Bmeet_187 : decode b_Bmeet 187 = .ok (.goto (-33), 3) := by decide +kernel
theorem d_Bmeet_190 : decode b_Bmeet 190 = .ok (.aload_n 3, 1) := by decide +kernel
theorem d_Bmeet_191 : decode b_Bmeet 191 = .ok (.invokevirtual 33, 3) := by decide +kernel
theorem d_Bmeet_194 : decode b_Bmeet 194 = .ok (.ireturn, 1) := by decide +kernel
theorem d_Bcost_0 : decode b_Bcost 0 = .ok (.iload_n 1, 1) := by decide +kernel
theorem d_Bcost_1 : decode b_Bcost 1 = .ok (.iconst 4, 1) := by decide +kernel
theorem d_Bcost_2 : decode b_Bcost 2 = .ok (.invokestatic 56, 3) := by decide +kernel
theorem d_Bcost_5 : decode b_Bcost 5 = .ok (.ifCond .eq 15, 3) := by decide +kernel
theorem d_Bcost_8 : decode b_Bcost 8 = .ok (.aload_n 0, 1) := by decide +kernel
theorem d_Bcost_9 : decode b_Bcost 9 = .ok (.getfield 18, 3) := by decide +kernel
theorem d_Bcost_12 : decode b_Bcost 12 = .ok (.iload_n 1, 1) := by decide +kernel
theorem d_Bcost_13 : decode b_Bcost 13 = .ok (.aaload, 1) := by decide +kernel
theorem d_Bcost_14 : decode b_Bcost 14 = .ok (.getfield 84, 3) := by decide +kernel
theorem d_Bcost_17 : decode b_Bcost 17 = .ok (.goto 4, 3) := by decide +kernel
theorem d_Bcost_20 : decode b_Bcost 20 = .ok (.iconst (-1), 1) := by decide +kernel
theorem d_Bcost_21 : decode b_Bcost 21 = .ok (.ireturn, 1) := by decide +kernel
theorem d_Bobject_0 : decode b_Bobject 0 = .ok (.aload_n 0, 1) := by decide +kernel
theorem d_Bobject_1 : decode b_Bobject 1 = .ok (.iload_n 1, 1) := by decide +kernel
theorem d_Bobject_2 : decode b_Bobject 2 = .ok (.iload_n 2, 1) := by decide +kernel
theorem d_Bobject_3 : decode b_Bobject 3 = .ok (.invokevirtual 118, 3) := by decide +kernel
theorem d_Bobject_6 : decode b_Bobject 6 = .ok (.astore 4, 2) := by decide +kernel
theorem d_Bobject_8 : decode b_Bobject 8 = .ok (.aload 4, 2) := by decide +kernel
theorem d_Bobject_10 : decode b_Bobject 10 = .ok (.ifnonnull 5, 3) := by decide +kernel
theorem d_Bobject_13 : decode b_Bobject 13 = .ok (.iconst (-1), 1) := by decide +kernel
theorem d_Bobject_14 : decode b_Bobject 14 = .ok (.ireturn, 1) := by decide +kernel
theorem d_Bobject_15 : decode b_Bobject 15 = .ok (.aload_n 0, 1) := by decide +kernel
theorem d_Bobject_16 : decode b_Bobject 16 = .ok (.getfield 18, 3) := by decide +kernel
theorem d_Bobject_19 : decode b_Bobject 19 = .ok (.iload_n 1, 1) := by decide +kernel
theorem d_Bobject_20 : decode b_Bobject 20 = .ok (.aaload, 1) := by decide +kernel
theorem d_Bobject_21 : decode b_Bobject 21 = .ok (.astore 5, 2) := by decide +kernel
theorem d_Bobject_23 : decode b_Bobject 23 = .ok (.aload 4, 2) := by decide +kernel
theorem d_Bobject_25 : decode b_Bobject 25 = .ok (.getfield 122, 3) := by decide +kernel
theorem d_Bobject_28 : decode b_Bobject 28 = .ok (.ifnull 13, 3) := by decide +kernel
theorem d_Bobject_31 : decode b_Bobject 31 = .ok (.aload 5, 2) := by decide +kernel
theorem d_Bobject_33 : decode b_Bobject 33 = .ok (.aload 4, 2) := by decide +kernel
theorem d_Bobject_35 : decode b_Bobject 35 = .ok (.invokevirtual 126, 3) := by decide +kernel
theorem d_Bobject_38 : decode b_Bobject 38 = .ok (.ifCond .eq 7, 3) := by decide +kernel
theorem d_Bobject_41 : decode b_Bobject 41 = .ok (.iconst 1, 1) := by decide +kernel
theorem d_Bobject_42 : decode b_Bobject 42 = .ok (.goto 4, 3) := by decide +kernel
theorem d_Bobject_45 : decode b_Bobject 45 = .ok (.iconst 0, 1) := by decide +kernel
theorem d_Bobject_46 : decode b_Bobject 46 = .ok (.istore 6, 2) := by decide +kernel
theorem d_Bobject_48 : decode b_Bobject 48 = .ok (.iload_n 3, 1) := by decide +kernel
theorem d_Bobject_49 : decode b_Bobject 49 = .ok (.tableswitch 152 0 5 #[39, 57, 83, 92, 108, 131], 39) := by decide +kernel
theorem d_Bobject_88 : decode b_Bobject 88 = .ok (.iload 6, 2) := by decide +kernel
theorem d_Bobject_90 : decode b_Bobject 90 = .ok (.ifCond .eq 7, 3) := by decide +kernel
theorem d_Bobject_93 : decode b_Bobject 93 = .ok (.iconst (-1), 1) := by decide +kernel
theorem d_Bobject_94 : decode b_Bobject 94 = .ok (.goto 11, 3) := by decide +kernel
theorem d_Bobject_97 : decode b_Bobject 97 = .ok (.aload 4, 2) := by decide +kernel
theorem d_Bobject_99 : decode b_Bobject 99 = .ok (.getfield 122, 3) := by decide +kernel
theorem d_Bobject_102 : decode b_Bobject 102 = .ok (.getfield 130, 3) := by decide +kernel
theorem d_Bobject_105 : decode b_Bobject 105 = .ok (.ireturn, 1) := by decide +kernel
theorem d_Bobject_106 : decode b_Bobject 106 = .ok (.aload 5, 2) := by decide +kernel
theorem d_Bobject_108 : decode b_Bobject 108 = .ok (.aload 4, 2) := by decide +kernel
theorem d_Bobject_110 : decode b_Bobject 110 = .ok (.invokevirtual 133, 3) := by decide +kernel
theorem d_Bobject_113 : decode b_Bobject 113 = .ok (.ifCond .eq 13, 3) := by decide +kernel
theorem d_Bobject_116 : decode b_Bobject 116 = .ok (.aload 4, 2) := by decide +kernel
theorem d_Bobject_118 : decode b_Bobject 118 = .ok (.invokevirtual 136, 3) := by decide +kernel
theorem d_Bobject_121 : decode b_Bobject 121 = .ok (.iconst 1, 1) := by decide +kernel
theorem d_Bobject_122 : decode b_Bobject 122 = .ok (.isub, 1) := by decide +kernel
theorem d_Bobject_123 : decode b_Bobject 123 = .ok (.goto 8, 3) := by decide +kernel
theorem d_Bobject_126 : decode b_Bobject 126 = .ok (.aload 4, 2) := by decide +kernel
theorem d_Bobject_128 : decode b_Bobject 128 = .ok (.invokevirtual 136, 3) := by decide +kernel
theorem d_Bobject_131 : decode b_Bobject 131 = .ok (.ireturn, 1) := by decide +kernel
theorem d_Bobject_132 : decode b_Bobject 132 = .ok (.aload 4, 2) := by decide +kernel
theorem d_Bobject_134 : decode b_Bobject 134 = .ok (.getfield 139, 3) := by decide +kernel
theorem d_Bobject_137 : decode b_Bobject 137 = .ok (.invokevirtual 33, 3) := by decide +kernel
theorem d_Bobject_140 : decode b_Bobject 140 = .ok (.ireturn, 1) := by decide +kernel
theorem d_Bobject_141 : decode b_Bobject 141 = .ok (.aload 5, 2) := by decide +kernel
theorem d_Bobject_143 : decode b_Bobject 143 = .ok (.aload 4, 2) := by decide +kernel
theorem d_Bobject_145 : decode b_Bobject 145 = .ok (.invokevirtual 133, 3) := by decide +kernel
theorem d_Bobject_148 : decode b_Bobject 148 = .ok (.ifCond .eq 7, 3) := by decide +kernel
theorem d_Bobject_151 : decode b_Bobject 151 = .ok (.iconst 1, 1) := by decide +kernel
theorem d_Bobject_152 : decode b_Bobject 152 = .ok (.goto 4, 3) := by decide +kernel
theorem d_Bobject_155 : decode b_Bobject 155 = .ok (.iconst 0, 1) := by decide +kernel
theorem d_Bobject_156 : decode b_Bobject 156 = .ok (.ireturn, 1) := by decide +kernel
theorem d_Bobject_157 : decode b_Bobject 157 = .ok (.aload 4, 2) := by decide +kernel
theorem d_Bobject_159 : decode b_Bobject 159 = .ok (.getfield 122, 3) := by decide +kernel
theorem d_Bobject_162 : decode b_Bobject 162 = .ok (.ifnonnull 7, 3) := by decide +kernel
theorem d_Bobject_165 : decode b_Bobject 165 = .ok (.iconst 0, 1) := by decide +kernel
theorem d_Bobject_166 : decode b_Bobject 166 = .ok (.goto 13, 3) := by decide +kernel
theorem d_Bobject_169 : decode b_Bobject 169 = .ok (.aload 4, 2) := by decide +kernel
theorem d_Bobject_171 : decode b_Bobject 171 = .ok (.getfield 122, 3) := by decide +kernel
theorem d_Bobject_174 : decode b_Bobject 174 = .ok (.aload 4, 2) := by decide +kernel
theorem d_Bobject_176 : decode b_Bobject 176 = .ok (.invokevirtual 142, 3) := by decide +kernel
theorem d_Bobject_179 : decode b_Bobject 179 = .ok (.ireturn, 1) := by decide +kernel
theorem d_Bobject_180 : decode b_Bobject 180 = .ok (.aload 4, 2) := by decide +kernel
theorem d_Bobject_182 : decode b_Bobject 182 = .ok (.getfield 146, 3) := by decide +kernel
theorem d_Bobject_185 : decode b_Bobject 185 = .ok (.ifnonnull 7, 3) := by decide +kernel
theorem d_Bobject_188 : decode b_Bobject 188 = .ok (.iconst (-1), 1) := by decide +kernel
theorem d_Bobject_189 : decode b_Bobject 189 = .ok (.goto 11, 3) := by decide +kernel
theorem d_Bobject_192 : decode b_Bobject 192 = .ok (.aload 4, 2) := by decide +kernel
theorem d_Bobject_194 : decode b_Bobject 194 = .ok (.getfield 146, 3) := by decide +kernel
theorem d_Bobject_197 : decode b_Bobject 197 = .ok (.getfield 130, 3) := by decide +kernel
theorem d_Bobject_200 : decode b_Bobject 200 = .ok (.ireturn, 1) := by decide +kernel
theorem d_Bobject_201 : decode b_Bobject 201 = .ok (.iconst (-1), 1) := by decide +kernel
theorem d_Bobject_202 : decode b_Bobject 202 = .ok (.ireturn, 1) := by decide +kernel
theorem d_Bplace_0 : decode b_Bplace 0 = .ok (.iload_n 1, 1) := by decide +kernel
theorem d_Bplace_1 : decode b_Bplace 1 = .ok (.iconst 4, 1) := by decide +kernel
theorem d_Bplace_2 : decode b_Bplace 2 = .ok (.invokestatic 56, 3) := by decide +kernel
theorem d_Bplace_5 : decode b_Bplace 5 = .ok (.ifCond .eq 43, 3) := by decide +kernel
theorem d_Bplace_8 : decode b_Bplace 8 = .ok (.iload_n 2, 1) := by decide +kernel
theorem d_Bplace_9 : decode b_Bplace 9 = .ok (.bipush 40, 2) := by decide +kernel
theorem d_Bplace_11 : decode b_Bplace 11 = .ok (.invokestatic 56, 3) := by decide +kernel
theorem d_Bplace_14 : decode b_Bplace 14 = .ok (.ifCond .eq 34, 3) := by decide +kernel
theorem d_Bplace_17 : decode b_Bplace 17 = .ok (.aload_n 0, 1) := by decide +kernel
theorem d_Bplace_18 : decode b_Bplace 18 = .ok (.getfield 18, 3) := by decide +kernel
theorem d_Bplace_21 : decode b_Bplace 21 = .ok (.iload_n 1, 1) := by decide +kernel
theorem d_Bplace_22 : decode b_Bplace 22 = .ok (.aaload, 1) := by decide +kernel
theorem d_Bplace_23 : decode b_Bplace 23 = .ok (.getfield 108, 3) := by decide +kernel
theorem d_Bplace_26 : decode b_Bplace 26 = .ok (.iload_n 2, 1) := by decide +kernel
theorem d_Bplace_27 : decode b_Bplace 27 = .ok (.aaload, 1) := by decide +kernel
theorem d_Bplace_28 : decode b_Bplace 28 = .ok (.getfield 112, 3) := by decide +kernel
theorem d_Bplace_31 : decode b_Bplace 31 = .ok (.ifCond .eq 17, 3) := by decide +kernel
theorem d_Bplace_34 : decode b_Bplace 34 = .ok (.aload_n 0, 1) := by decide +kernel
theorem d_Bplace_35 : decode b_Bplace 35 = .ok (.getfield 18, 3) := by decide +kernel
theorem d_Bplace_38 : decode b_Bplace 38 = .ok (.iload_n 1, 1) := by decide +kernel
theorem d_Bplace_39 : decode b_Bplace 39 = .ok (.aaload, 1) := by decide +kernel
theorem d_Bplace_40 : decode b_Bplace 40 = .ok (.getfield 108, 3) := by decide +kernel
theorem d_Bplace_43 : decode b_Bplace 43 = .ok (.iload_n 2, 1) := by decide +kernel
theorem d_Bplace_44 : decode b_Bplace 44 = .ok (.aaload, 1) := by decide +kernel
theorem d_Bplace_45 : decode b_Bplace 45 = .ok (.goto 4, 3) := by decide +kernel
theorem d_Bplace_48 : decode b_Bplace 48 = .ok (.aconst_null, 1) := by decide +kernel
theorem d_Bplace_49 : decode b_Bplace 49 = .ok (.areturn, 1) := by decide +kernel
theorem d_Bchild_0 : decode b_Bchild 0 = .ok (.iload_n 1, 1) := by decide +kernel
theorem d_Bchild_1 : decode b_Bchild 1 = .ok (.iconst 4, 1) := by decide +kernel
theorem d_Bchild_2 : decode b_Bchild 2 = .ok (.invokestatic 56, 3) := by decide +kernel
theorem d_Bchild_5 : decode b_Bchild 5 = .ok (.ifCond .ne 5, 3) := by decide +kernel
theorem d_Bchild_8 : decode b_Bchild 8 = .ok (.iconst (-1), 1) := by decide +kernel
theorem d_Bchild_9 : decode b_Bchild 9 = .ok (.ireturn, 1) := by decide +kernel
theorem d_Bchild_10 : decode b_Bchild 10 = .ok (.iload_n 2, 1) := by decide +kernel
theorem d_Bchild_11 : decode b_Bchild 11 = .ok (.iconst (-1), 1) := by decide +kernel
theorem d_Bchild_12 : decode b_Bchild 12 = .ok (.if_icmp .ne 15, 3) := by decide +kernel
theorem d_Bchild_15 : decode b_Bchild 15 = .ok (.aload_n 0, 1) := by decide +kernel
theorem d_Bchild_16 : decode b_Bchild 16 = .ok (.getfield 18, 3) := by decide +kernel
theorem d_Bchild_19 : decode b_Bchild 19 = .ok (.iload_n 1, 1) := by decide +kernel
theorem d_Bchild_20 : decode b_Bchild 20 = .ok (.aaload, 1) := by decide +kernel
theorem d_Bchild_21 : decode b_Bchild 21 = .ok (.getfield 149, 3) := by decide +kernel
theorem d_Bchild_24 : decode b_Bchild 24 = .ok (.goto 9, 3) := by decide +kernel
theorem d_Bchild_27 : decode b_Bchild 27 = .ok (.aload_n 0, 1) := by decide +kernel
theorem d_Bchild_28 : decode b_Bchild 28 = .ok (.iload_n 1, 1) := by decide +kernel
theorem d_Bchild_29 : decode b_Bchild 29 = .ok (.iload_n 2, 1) := by decide +kernel
theorem d_Bchild_30 : decode b_Bchild 30 = .ok (.invokevirtual 118, 3) := by decide +kernel
theorem d_Bchild_33 : decode b_Bchild 33 = .ok (.astore 4, 2) := by decide +kernel
theorem d_Bchild_35 : decode b_Bchild 35 = .ok (.aload 4, 2) := by decide +kernel
theorem d_Bchild_37 : decode b_Bchild 37 = .ok (.ifnull 18, 3) := by decide +kernel
theorem d_Bchild_40 : decode b_Bchild 40 = .ok (.iload_n 3, 1) := by decide +kernel
theorem d_Bchild_41 : decode b_Bchild 41 = .ok (.aload 4, 2) := by decide +kernel
theorem d_Bchild_43 : decode b_Bchild 43 = .ok (.getfield 139, 3) := by decide +kernel
theorem d_Bchild_46 : decode b_Bchild 46 = .ok (.invokevirtual 33, 3) := by decide +kernel
theorem d_Bchild_49 : decode b_Bchild 49 = .ok (.invokestatic 56, 3) := by decide +kernel
theorem d_Bchild_52 : decode b_Bchild 52 = .ok (.ifCond .ne 7, 3) := by decide +kernel
theorem d_Bchild_55 : decode b_Bchild 55 = .ok (.iconst (-1), 1) := by decide +kernel
theorem d_Bchild_56 : decode b_Bchild 56 = .ok (.goto 18, 3) := by decide +kernel
theorem d_Bchild_59 : decode b_Bchild 59 = .ok (.aload 4, 2) := by decide +kernel
theorem d_Bchild_61 : decode b_Bchild 61 = .ok (.getfield 139, 3) := by decide +kernel
theorem d_Bchild_64 : decode b_Bchild 64 = .ok (.iload_n 3, 1) := by decide +kernel
theorem d_Bchild_65 : decode b_Bchild 65 = .ok (.invokevirtual 70, 3) := by decide +kernel
theorem d_Bchild_68 : decode b_Bchild 68 = .ok (.checkcast 113, 3) := by decide +kernel
theorem d_Bchild_71 : decode b_Bchild 71 = .ok (.getfield 130, 3) := by decide +kernel
theorem d_Bchild_74 : decode b_Bchild 74 = .ok (.ireturn, 1) := by decide +kernel
theorem d_Brow_0 : decode b_Brow 0 = .ok (.aload_n 0, 1) := by decide +kernel
theorem d_Brow_1 : decode b_Brow 1 = .ok (.iload_n 1, 1) := by decide +kernel
theorem d_Brow_2 : decode b_Brow 2 = .ok (.invokevirtual 66, 3) := by decide +kernel
theorem d_Brow_5 : decode b_Brow 5 = .ok (.ifCond .ne 5, 3) := by decide +kernel
theorem d_Brow_8 : decode b_Brow 8 = .ok (.iconst (-1), 1) := by decide +kernel
theorem d_Brow_9 : decode b_Brow 9 = .ok (.ireturn, 1) := by decide +kernel
theorem d_Brow_10 : decode b_Brow 10 = .ok (.aload_n 0, 1) := by decide +kernel
theorem d_Brow_11 : decode b_Brow 11 = .ok (.getfield 10, 3) := by decide +kernel
theorem d_Brow_14 : decode b_Brow 14 = .ok (.iload_n 1, 1) := by decide +kernel
theorem d_Brow_15 : decode b_Brow 15 = .ok (.iconst 1, 1) := by decide +kernel
theorem d_Brow_16 : decode b_Brow 16 = .ok (.isub, 1) := by decide +kernel
theorem d_Brow_17 : decode b_Brow 17 = .ok (.invokevirtual 70, 3) := by decide +kernel
theorem d_Brow_20 : decode b_Brow 20 = .ok (.checkcast 37, 3) := by decide +kernel
theorem d_Brow_23 : decode b_Brow 23 = .ok (.astore_n 3, 1) := by decide +kernel
theorem d_Brow_24 : decode b_Brow 24 = .ok (.iload_n 2, 1) := by decide +kernel
theorem d_Brow_25 : decode b_Brow 25 = .ok (.tableswitch 69 0 5 #[39, 44, 49, 54, 59, 64], 39) := by decide +kernel
theorem d_Brow_64 : decode b_Brow 64 = .ok (.aload_n 3, 1) := by decide +kernel
theorem d_Brow_65 : decode b_Brow 65 = .ok (.invokevirtual 77, 3) := by decide +kernel
theorem d_Brow_68 : decode b_Brow 68 = .ok (.ireturn, 1) := by decide +kernel
theorem d_Brow_69 : decode b_Brow 69 = .ok (.aload_n 3, 1) := by decide +kernel
theorem d_Brow_70 : decode b_Brow 70 = .ok (.invokevirtual 74, 3) := by decide +kernel
theorem d_Brow_73 : decode b_Brow 73 = .ok (.ireturn, 1) := by decide +kernel
theorem d_Brow_74 : decode b_Brow 74 = .ok (.aload_n 3, 1) := by decide +kernel
theorem d_Brow_75 : decode b_Brow 75 = .ok (.invokevirtual 152, 3) := by decide +kernel
theorem d_Brow_78 : decode b_Brow 78 = .ok (.ireturn, 1) := by decide +kernel
theorem d_Brow_79 : decode b_Brow 79 = .ok (.aload_n 3, 1) := by decide +kernel
theorem d_Brow_80 : decode b_Brow 80 = .ok (.invokevirtual 154, 3) := by decide +kernel
theorem d_Brow_83 : decode b_Brow 83 = .ok (.ireturn, 1) := by decide +kernel
theorem d_Brow_84 : decode b_Brow 84 = .ok (.aload_n 3, 1) := by decide +kernel
theorem d_Brow_85 : decode b_Brow 85 = .ok (.invokevirtual 156, 3) := by decide +kernel
theorem d_Brow_88 : decode b_Brow 88 = .ok (.ireturn, 1) := by decide +kernel
theorem d_Brow_89 : decode b_Brow 89 = .ok (.aload_n 3, 1) := by decide +kernel
theorem d_Brow_90 : decode b_Brow 90 = .ok (.invokevirtual 159, 3) := by decide +kernel
theorem d_Brow_93 : decode b_Brow 93 = .ok (.ireturn, 1) := by decide +kernel
theorem d_Brow_94 : decode b_Brow 94 = .ok (.iconst (-1), 1) := by decide +kernel
theorem d_Brow_95 : decode b_Brow 95 = .ok (.ireturn, 1) := by decide +kernel
theorem d_Bjudged_0 : decode b_Bjudged 0 = .ok (.iload_n 1, 1) := by decide +kernel
theorem d_Bjudged_1 : decode b_Bjudged 1 = .ok (.iconst 4, 1) := by decide +kernel
theorem d_Bjudged_2 : decode b_Bjudged 2 = .ok (.invokestatic 56, 3) := by decide +kernel
theorem d_Bjudged_5 : decode b_Bjudged 5 = .ok (.ifCond .eq 11, 3) := by decide +kernel
theorem d_Bjudged_8 : decode b_Bjudged 8 = .ok (.aload_n 0, 1) := by decide +kernel
theorem d_Bjudged_9 : decode b_Bjudged 9 = .ok (.iload_n 2, 1) := by decide +kernel
theorem d_Bjudged_10 : decode b_Bjudged 10 = .ok (.invokevirtual 66, 3) := by decide +kernel
theorem d_Bjudged_13 : decode b_Bjudged 13 = .ok (.ifCond .ne 5, 3) := by decide +kernel
theorem d_Bjudged_16 : decode b_Bjudged 16 = .ok (.iconst (-1), 1) := by decide +kernel
theorem d_Bjudged_17 : decode b_Bjudged 17 = .ok (.ireturn, 1) := by decide +kernel
theorem d_Bjudged_18 : decode b_Bjudged 18 = .ok (.aload_n 0, 1) := by decide +kernel
theorem d_Bjudged_19 : decode b_Bjudged 19 = .ok (.getfield 18, 3) := by decide +kernel
theorem d_Bjudged_22 : decode b_Bjudged 22 = .ok (.iload_n 1, 1) := by decide +kernel
theorem d_Bjudged_23 : decode b_Bjudged 23 = .ok (.aaload, 1) := by decide +kernel
theorem d_Bjudged_24 : decode b_Bjudged 24 = .ok (.getfield 80, 3) := by decide +kernel
theorem d_Bjudged_27 : decode b_Bjudged 27 = .ok (.iload_n 2, 1) := by decide +kernel
theorem d_Bjudged_28 : decode b_Bjudged 28 = .ok (.aaload, 1) := by decide +kernel
theorem d_Bjudged_29 : decode b_Bjudged 29 = .ok (.astore_n 3, 1) := by decide +kernel
theorem d_Bjudged_30 : decode b_Bjudged 30 = .ok (.aload_n 3, 1) := by decide +kernel
theorem d_Bjudged_31 : decode b_Bjudged 31 = .ok (.ifnonnull 5, 3) := by decide +kernel
theorem d_Bjudged_34 : decode b_Bjudged 34 = .ok (.iconst 0, 1) := by decide +kernel
theorem d_Bjudged_35 : decode b_Bjudged 35 = .ok (.ireturn, 1) := by decide +kernel
theorem d_Bjudged_36 : decode b_Bjudged 36 = .ok (.aload_n 3, 1) := by decide +kernel
theorem d_Bjudged_37 : decode b_Bjudged 37 = .ok (.getfield 162, 3) := by decide +kernel
theorem d_Bjudged_40 : decode b_Bjudged 40 = .ok (.invokevirtual 77, 3) := by decide +kernel
theorem d_Bjudged_43 : decode b_Bjudged 43 = .ok (.iconst 4, 1) := by decide +kernel
theorem d_Bjudged_44 : decode b_Bjudged 44 = .ok (.if_icmp .ne 5, 3) := by decide +kernel
theorem d_Bjudged_47 : decode b_Bjudged 47 = .ok (.iconst 1, 1) := by decide +kernel
theorem d_Bjudged_48 : decode b_Bjudged 48 = .ok (.ireturn, 1) := by decide +kernel
theorem d_Bjudged_49 : decode b_Bjudged 49 = .ok (.aload_n 3, 1) := by decide +kernel
theorem d_Bjudged_50 : decode b_Bjudged 50 = .ok (.getfield 168, 3) := by decide +kernel
theorem d_Bjudged_53 : decode b_Bjudged 53 = .ok (.ifCond .eq 7, 3) := by decide +kernel
theorem d_Bjudged_56 : decode b_Bjudged 56 = .ok (.iconst 3, 1) := by decide +kernel
theorem d_Bjudged_57 : decode b_Bjudged 57 = .ok (.goto 15, 3) := by decide +kernel
theorem d_Bjudged_60 : decode b_Bjudged 60 = .ok (.aload_n 3, 1) := by decide +kernel
theorem d_Bjudged_61 : decode b_Bjudged 61 = .ok (.getfield 171, 3) := by decide +kernel
theorem d_Bjudged_64 : decode b_Bjudged 64 = .ok (.ifCond .eq 7, 3) := by decide +kernel
theorem d_Bjudged_67 : decode b_Bjudged 67 = .ok (.iconst 1, 1) := by decide +kernel
theorem d_Bjudged_68 : decode b_Bjudged 68 = .ok (.goto 4, 3) := by decide +kernel
theorem d_Bjudged_71 : decode b_Bjudged 71 = .ok (.iconst 2, 1) := by decide +kernel
theorem d_Bjudged_72 : decode b_Bjudged 72 = .ok (.ireturn, 1) := by decide +kernel
theorem d_Balike_0 : decode b_Balike 0 = .ok (.iload_n 1, 1) := by decide +kernel
theorem d_Balike_1 : decode b_Balike 1 = .ok (.iconst 4, 1) := by decide +kernel
theorem d_Balike_2 : decode b_Balike 2 = .ok (.invokestatic 56, 3) := by decide +kernel
theorem d_Balike_5 : decode b_Balike 5 = .ok (.ifCond .eq 67, 3) := by decide +kernel
theorem d_Balike_8 : decode b_Balike 8 = .ok (.iload_n 2, 1) := by decide +kernel
theorem d_Balike_9 : decode b_Balike 9 = .ok (.iconst 4, 1) := by decide +kernel
theorem d_Balike_10 : decode b_Balike 10 = .ok (.invokestatic 56, 3) := by decide +kernel
theorem d_Balike_13 : decode b_Balike 13 = .ok (.ifCond .eq 59, 3) := by decide +kernel
theorem d_Balike_16 : decode b_Balike 16 = .ok (.aload_n 0, 1) := by decide +kernel
theorem d_Balike_17 : decode b_Balike 17 = .ok (.getfield 18, 3) := by decide +kernel
theorem d_Balike_20 : decode b_Balike 20 = .ok (.iload_n 1, 1) := by decide +kernel
theorem d_Balike_21 : decode b_Balike 21 = .ok (.aaload, 1) := by decide +kernel
theorem d_Balike_22 : decode b_Balike 22 = .ok (.getfield 108, 3) := by decide +kernel
theorem d_Balike_25 : decode b_Balike 25 = .ok (.iconst 0, 1) := by decide +kernel
theorem d_Balike_26 : decode b_Balike 26 = .ok (.aaload, 1) := by decide +kernel
theorem d_Balike_27 : decode b_Balike 27 = .ok (.aload_n 0, 1) := by decide +kernel
theorem d_Balike_28 : decode b_Balike 28 = .ok (.getfield 18, 3) := by decide +kernel
theorem d_Balike_31 : decode b_Balike 31 = .ok (.iload_n 2, 1) := by decide +kernel
theorem d_Balike_32 : decode b_Balike 32 = .ok (.aaload, 1) := by decide +kernel
theorem d_Balike_33 : decode b_Balike 33 = .ok (.getfield 108, 3) := by decide +kernel
theorem d_Balike_36 : decode b_Balike 36 = .ok (.iconst 0, 1) := by decide +kernel
theorem d_Balike_37 : decode b_Balike 37 = .ok (.aaload, 1) := by decide +kernel
theorem d_Balike_38 : decode b_Balike 38 = .ok (.invokestatic 174, 3) := by decide +kernel
theorem d_Balike_41 : decode b_Balike 41 = .ok (.ifCond .eq 31, 3) := by decide +kernel
theorem d_Balike_44 : decode b_Balike 44 = .ok (.aload_n 0, 1) := by decide +kernel
theorem d_Balike_45 : decode b_Balike 45 = .ok (.getfield 18, 3) := by decide +kernel
theorem d_Balike_48 : decode b_Balike 48 = .ok (.iload_n 1, 1) := by decide +kernel
theorem d_Balike_49 : decode b_Balike 49 = .ok (.aaload, 1) := by decide +kernel
theorem d_Balike_50 : decode b_Balike 50 = .ok (.getfield 149, 3) := by decide +kernel
theorem d_Balike_53 : decode b_Balike 53 = .ok (.aload_n 0, 1) := by decide +kernel
theorem d_Balike_54 : decode b_Balike 54 = .ok (.getfield 18, 3) := by decide +kernel
theorem d_Balike_57 : decode b_Balike 57 = .ok (.iload_n 2, 1) := by decide +kernel
theorem d_Balike_58 : decode b_Balike 58 = .ok (.aaload, 1) := by decide +kernel
theorem d_Balike_59 : decode b_Balike 59 = .ok (.getfield 149, 3) := by decide +kernel
theorem d_Balike_62 : decode b_Balike 62 = .ok (.invokestatic 174, 3) := by decide +kernel
theorem d_Balike_65 : decode b_Balike 65 = .ok (.ifCond .eq 7, 3) := by decide +kernel
theorem d_Balike_68 : decode b_Balike 68 = .ok (.iconst 1, 1) := by decide +kernel
theorem d_Balike_69 : decode b_Balike 69 = .ok (.goto 4, 3) := by decide +kernel
theorem d_Balike_72 : decode b_Balike 72 = .ok (.iconst 0, 1) := by decide +kernel
theorem d_Balike_73 : decode b_Balike 73 = .ok (.ireturn, 1) := by decide +kernel
theorem d_BareAlike_0 : decode b_BareAlike 0 = .ok (.aload_n 0, 1) := by decide +kernel
theorem d_BareAlike_1 : decode b_BareAlike 1 = .ok (.getfield 139, 3) := by decide +kernel
theorem d_BareAlike_4 : decode b_BareAlike 4 = .ok (.invokevirtual 33, 3) := by decide +kernel
theorem d_BareAlike_7 : decode b_BareAlike 7 = .ok (.aload_n 1, 1) := by decide +kernel
theorem d_BareAlike_8 : decode b_BareAlike 8 = .ok (.getfield 139, 3) := by decide +kernel
theorem d_BareAlike_11 : decode b_BareAlike 11 = .ok (.invokevirtual 33, 3) := by decide +kernel
theorem d_BareAlike_14 : decode b_BareAlike 14 = .ok (.if_icmp .eq 5, 3) := by decide +kernel
theorem d_BareAlike_17 : decode b_BareAlike 17 = .ok (.iconst 0, 1) := by decide +kernel
theorem d_BareAlike_18 : decode b_BareAlike 18 = .ok (.ireturn, 1) := by decide +kernel
theorem d_BareAlike_19 : decode b_BareAlike 19 = .ok (.iconst 0, 1) := by decide +kernel
theorem d_BareAlike_20 : decode b_BareAlike 20 = .ok (.istore_n 2, 1) := by decide +kernel
theorem d_BareAlike_21 : decode b_BareAlike 21 = .ok (.iload_n 2, 1) := by decide +kernel
theorem d_BareAlike_22 : decode b_BareAlike 22 = .ok (.aload_n 0, 1) := by decide +kernel
theorem d_BareAlike_23 : decode b_BareAlike 23 = .ok (.getfield 139, 3) := by decide +kernel
theorem d_BareAlike_26 : decode b_BareAlike 26 = .ok (.invokevirtual 33, 3) := by decide +kernel
theorem d_BareAlike_29 : decode b_BareAlike 29 = .ok (.if_icmp .ge 57, 3) := by decide +kernel
theorem d_BareAlike_32 : decode b_BareAlike 32 = .ok (.aload_n 0, 1) := by decide +kernel
theorem d_BareAlike_33 : decode b_BareAlike 33 = .ok (.getfield 139, 3) := by decide +kernel
theorem d_BareAlike_36 : decode b_BareAlike 36 = .ok (.iload_n 2, 1) := by decide +kernel
theorem d_BareAlike_37 : decode b_BareAlike 37 = .ok (.invokevirtual 70, 3) := by decide +kernel
theorem d_BareAlike_40 : decode b_BareAlike 40 = .ok (.checkcast 113, 3) := by decide +kernel
theorem d_BareAlike_43 : decode b_BareAlike 43 = .ok (.astore_n 3, 1) := by decide +kernel
theorem d_BareAlike_44 : decode b_BareAlike 44 = .ok (.aload_n 1, 1) := by decide +kernel
theorem d_BareAlike_45 : decode b_BareAlike 45 = .ok (.getfield 139, 3) := by decide +kernel
theorem d_BareAlike_48 : decode b_BareAlike 48 = .ok (.iload_n 2, 1) := by decide +kernel
theorem d_BareAlike_49 : decode b_BareAlike 49 = .ok (.invokevirtual 70, 3) := by decide +kernel
theorem d_BareAlike_52 : decode b_BareAlike 52 = .ok (.checkcast 113, 3) := by decide +kernel
theorem d_BareAlike_55 : decode b_BareAlike 55 = .ok (.astore 4, 2) := by decide +kernel
theorem d_BareAlike_57 : decode b_BareAlike 57 = .ok (.aload_n 3, 1) := by decide +kernel
theorem d_BareAlike_58 : decode b_BareAlike 58 = .ok (.getfield 130, 3) := by decide +kernel
theorem d_BareAlike_61 : decode b_BareAlike 61 = .ok (.aload 4, 2) := by decide +kernel
theorem d_BareAlike_63 : decode b_BareAlike 63 = .ok (.getfield 130, 3) := by decide +kernel
theorem d_BareAlike_66 : decode b_BareAlike 66 = .ok (.if_icmp .ne 12, 3) := by decide +kernel
theorem d_BareAlike_69 : decode b_BareAlike 69 = .ok (.aload_n 3, 1) := by decide +kernel
theorem d_BareAlike_70 : decode b_BareAlike 70 = .ok (.aload 4, 2) := by decide +kernel
theorem d_BareAlike_72 : decode b_BareAlike 72 = .ok (.invokestatic 174, 3) := by decide +kernel
theorem d_BareAlike_75 : decode b_BareAlike 75 = .ok (.ifCond .ne 5, 3) := by decide +kernel
theorem d_BareAlike_78 : decode b_BareAlike 78 = .ok (.iconst 0, 1) := by decide +kernel
theorem d_BareAlike_79 : decode b_BareAlike 79 = .ok (.ireturn, 1) := by decide +kernel
theorem d_BareAlike_80 : decode b_BareAlike 80 = .ok (.iinc 2 1, 3) := by decide +kernel
theorem d_BareAlike_83 : decode b_BareAlike 83 = .ok (.goto (-62), 3) := by decide +kernel
theorem d_BareAlike_86 : decode b_BareAlike 86 = .ok (.iconst 1, 1) := by decide +kernel
theorem d_BareAlike_87 : decode b_BareAlike 87 = .ok (.ireturn, 1) := by decide +kernel
theorem d_Btotal_0 : decode b_Btotal 0 = .ok (.iload_n 1, 1) := by decide +kernel
theorem d_Btotal_1 : decode b_Btotal 1 = .ok (.bipush 10, 2) := by decide +kernel
theorem d_Btotal_3 : decode b_Btotal 3 = .ok (.irem, 1) := by decide +kernel
theorem d_Btotal_4 : decode b_Btotal 4 = .ok (.istore_n 2, 1) := by decide +kernel
theorem d_Btotal_5 : decode b_Btotal 5 = .ok (.iload_n 1, 1) := by decide +kernel
theorem d_Btotal_6 : decode b_Btotal 6 = .ok (.bipush 10, 2) := by decide +kernel
theorem d_Btotal_8 : decode b_Btotal 8 = .ok (.if_icmp .lt 18, 3) := by decide +kernel
theorem d_Btotal_11 : decode b_Btotal 11 = .ok (.iload_n 1, 1) := by decide +kernel
theorem d_Btotal_12 : decode b_Btotal 12 = .ok (.bipush 50, 2) := by decide +kernel
theorem d_Btotal_14 : decode b_Btotal 14 = .ok (.if_icmp .ge 12, 3) := by decide +kernel
theorem d_Btotal_17 : decode b_Btotal 17 = .ok (.iload_n 2, 1) := by decide +kernel
theorem d_Btotal_18 : decode b_Btotal 18 = .ok (.iconst 4, 1) := by decide +kernel
theorem d_Btotal_19 : decode b_Btotal 19 = .ok (.if_icmp .ge 7, 3) := by decide +kernel
theorem d_Btotal_22 : decode b_Btotal 22 = .ok (.iconst 1, 1) := by decide +kernel
theorem d_Btotal_23 : decode b_Btotal 23 = .ok (.goto 4, 3) := by decide +kernel
theorem d_Btotal_26 : decode b_Btotal 26 = .ok (.iconst 0, 1) := by decide +kernel
theorem d_Btotal_27 : decode b_Btotal 27 = .ok (.istore_n 3, 1) := by decide +kernel
theorem d_Btotal_28 : decode b_Btotal 28 = .ok (.iload_n 3, 1) := by decide +kernel
theorem d_Btotal_29 : decode b_Btotal 29 = .ok (.ifCond .ne 31, 3) := by decide +kernel
theorem d_Btotal_32 : decode b_Btotal 32 = .ok (.iload_n 1, 1) := by decide +kernel
theorem d_Btotal_33 : decode b_Btotal 33 = .ok (.ifCond .ne 13, 3) := by decide +kernel
theorem d_Btotal_36 : decode b_Btotal 36 = .ok (.aload_n 0, 1) := by decide +kernel
theorem d_Btotal_37 : decode b_Btotal 37 = .ok (.getfield 10, 3) := by decide +kernel
theorem d_Btotal_40 : decode b_Btotal 40 = .ok (.invokevirtual 33, 3) := by decide +kernel
theorem d_Btotal_43 : decode b_Btotal 43 = .ok (.goto 16, 3) := by decide +kernel
theorem d_Btotal_46 : decode b_Btotal 46 = .ok (.iload_n 1, 1) := by decide +kernel
theorem d_Btotal_47 : decode b_Btotal 47 = .ok (.iconst 1, 1) := by decide +kernel
theorem d_Btotal_48 : decode b_Btotal 48 = .ok (.if_icmp .ne 10, 3) := by decide +kernel
theorem d_Btotal_51 : decode b_Btotal 51 = .ok (.aload_n 0, 1) := by decide +kernel
theorem d_Btotal_52 : decode b_Btotal 52 = .ok (.getfield 26, 3) := by decide +kernel
theorem d_Btotal_55 : decode b_Btotal 55 = .ok (.goto 4, 3) := by decide +kernel
theorem d_Btotal_58 : decode b_Btotal 58 = .ok (.iconst (-1), 1) := by decide +kernel
theorem d_Btotal_59 : decode b_Btotal 59 = .ok (.ireturn, 1) := by decide +kernel
theorem d_Btotal_60 : decode b_Btotal 60 = .ok (.aload_n 0, 1) := by decide +kernel
theorem d_Btotal_61 : decode b_Btotal 61 = .ok (.getfield 18, 3) := by decide +kernel
theorem d_Btotal_64 : decode b_Btotal 64 = .ok (.iload_n 2, 1) := by decide +kernel
theorem d_Btotal_65 : decode b_Btotal 65 = .ok (.aaload, 1) := by decide +kernel
theorem d_Btotal_66 : decode b_Btotal 66 = .ok (.astore 4, 2) := by decide +kernel
theorem d_Btotal_68 : decode b_Btotal 68 = .ok (.iload_n 1, 1) := by decide +kernel
theorem d_Btotal_69 : decode b_Btotal 69 = .ok (.bipush 10, 2) := by decide +kernel
theorem d_Btotal_71 : decode b_Btotal 71 = .ok (.idiv, 1) := by decide +kernel
theorem d_Btotal_72 : decode b_Btotal 72 = .ok (.tableswitch 46 1 3 #[28, 34, 40], 28) := by decide +kernel
theorem d_Btotal_100 : decode b_Btotal 100 = .ok (.aload 4, 2) := by decide +kernel
theorem d_Btotal_102 : decode b_Btotal 102 = .ok (.getfield 178, 3) := by decide +kernel
theorem d_Btotal_105 : decode b_Btotal 105 = .ok (.ireturn, 1) := by decide +kernel
theorem d_Btotal_106 : decode b_Btotal 106 = .ok (.aload 4, 2) := by decide +kernel
theorem d_Btotal_108 : decode b_Btotal 108 = .ok (.getfield 39, 3) := by decide +kernel
theorem d_Btotal_111 : decode b_Btotal 111 = .ok (.ireturn, 1) := by decide +kernel
theorem d_Btotal_112 : decode b_Btotal 112 = .ok (.aload 4, 2) := by decide +kernel
theorem d_Btotal_114 : decode b_Btotal 114 = .ok (.invokevirtual 181, 3) := by decide +kernel
theorem d_Btotal_117 : decode b_Btotal 117 = .ok (.ireturn, 1) := by decide +kernel
theorem d_Btotal_118 : decode b_Btotal 118 = .ok (.aload 4, 2) := by decide +kernel
theorem d_Btotal_120 : decode b_Btotal 120 = .ok (.getfield 149, 3) := by decide +kernel
theorem d_Btotal_123 : decode b_Btotal 123 = .ok (.getfield 139, 3) := by decide +kernel
theorem d_Btotal_126 : decode b_Btotal 126 = .ok (.invokevirtual 33, 3) := by decide +kernel
theorem d_Btotal_129 : decode b_Btotal 129 = .ok (.ireturn, 1) := by decide +kernel
theorem d_Tthere_0 : decode b_Tthere 0 = .ok (.iconst 0, 1) := by decide +kernel
theorem d_Tthere_1 : decode b_Tthere 1 = .ok (.istore_n 1, 1) := by decide +kernel
theorem d_Tthere_2 : decode b_Tthere 2 = .ok (.aload_n 0, 1) := by decide +kernel
theorem d_Tthere_3 : decode b_Tthere 3 = .ok (.getfield 11, 3) := by decide +kernel
theorem d_Tthere_6 : decode b_Tthere 6 = .ok (.astore_n 2, 1) := by decide +kernel
theorem d_Tthere_7 : decode b_Tthere 7 = .ok (.aload_n 2, 1) := by decide +kernel
theorem d_Tthere_8 : decode b_Tthere 8 = .ok (.arraylength, 1) := by decide +kernel
theorem d_Tthere_9 : decode b_Tthere 9 = .ok (.istore_n 3, 1) := by decide +kernel
theorem d_Tthere_10 : decode b_Tthere 10 = .ok (.iconst 0, 1) := by decide +kernel
theorem d_Tthere_11 : decode b_Tthere 11 = .ok (.istore 4, 2) := by decide +kernel
theorem d_Tthere_13 : decode b_Tthere 13 = .ok (.iload 4, 2) := by decide +kernel
theorem d_Tthere_15 : decode b_Tthere 15 = .ok (.iload_n 3, 1) := by decide +kernel
theorem d_Tthere_16 : decode b_Tthere 16 = .ok (.if_icmp .ge 31, 3) := by decide +kernel
theorem d_Tthere_19 : decode b_Tthere 19 = .ok (.aload_n 2, 1) := by decide +kernel
theorem d_Tthere_20 : decode b_Tthere 20 = .ok (.iload 4, 2) := by decide +kernel
theorem d_Tthere_22 : decode b_Tthere 22 = .ok (.aaload, 1) := by decide +kernel
theorem d_Tthere_23 : decode b_Tthere 23 = .ok (.astore 5, 2) := by decide +kernel
theorem d_Tthere_25 : decode b_Tthere 25 = .ok (.iload_n 1, 1) := by decide +kernel
theorem d_Tthere_26 : decode b_Tthere 26 = .ok (.aload 5, 2) := by decide +kernel
theorem d_Tthere_28 : decode b_Tthere 28 = .ok (.getfield 45, 3) := by decide +kernel
theorem d_Tthere_31 : decode b_Tthere 31 = .ok (.ifCond .eq 7, 3) := by decide +kernel
theorem d_Tthere_34 : decode b_Tthere 34 = .ok (.iconst 1, 1) := by decide +kernel
theorem d_Tthere_35 : decode b_Tthere 35 = .ok (.goto 4, 3) := by decide +kernel
theorem d_Tthere_38 : decode b_Tthere 38 = .ok (.iconst 0, 1) := by decide +kernel
theorem d_Tthere_39 : decode b_Tthere 39 = .ok (.iadd, 1) := by decide +kernel
theorem d_Tthere_40 : decode b_Tthere 40 = .ok (.istore_n 1, 1) := by decide +kernel
theorem d_Tthere_41 : decode b_Tthere 41 = .ok (.iinc 4 1, 3) := by decide +kernel
theorem d_Tthere_44 : decode b_Tthere 44 = .ok (.goto (-31), 3) := by decide +kernel
theorem d_Tthere_47 : decode b_Tthere 47 = .ok (.iload_n 1, 1) := by decide +kernel
theorem d_Tthere_48 : decode b_Tthere 48 = .ok (.ireturn, 1) := by decide +kernel
