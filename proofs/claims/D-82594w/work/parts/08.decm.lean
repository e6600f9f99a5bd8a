theorem d_Minit_0 : decode b_Minit 0 = .ok (.aload_n 0, 1) := by decide +kernel
theorem d_Minit_1 : decode b_Minit 1 = .ok (.invokespecial 1, 3) := by decide +kernel
theorem d_Minit_4 : decode b_Minit 4 = .ok (.aload_n 0, 1) := by decide +kernel
theorem d_Minit_5 : decode b_Minit 5 = .ok (.sipush 301, 3) := by decide +kernel
theorem d_Minit_8 : decode b_Minit 8 = .ok (.newarray .int, 2) := by decide +kernel
theorem d_Minit_10 : decode b_Minit 10 = .ok (.putfield 7, 3) := by decide +kernel
theorem d_Minit_13 : decode b_Minit 13 = .ok (.aload_n 0, 1) := by decide +kernel
theorem d_Minit_14 : decode b_Minit 14 = .ok (.sipush 301, 3) := by decide +kernel
theorem d_Minit_17 : decode b_Minit 17 = .ok (.newarray .int, 2) := by decide +kernel
theorem d_Minit_19 : decode b_Minit 19 = .ok (.putfield 13, 3) := by decide +kernel
theorem d_Minit_22 : decode b_Minit 22 = .ok (.aload_n 0, 1) := by decide +kernel
theorem d_Minit_23 : decode b_Minit 23 = .ok (.sipush 301, 3) := by decide +kernel
theorem d_Minit_26 : decode b_Minit 26 = .ok (.newarray .int, 2) := by decide +kernel
theorem d_Minit_28 : decode b_Minit 28 = .ok (.putfield 16, 3) := by decide +kernel
theorem d_Minit_31 : decode b_Minit 31 = .ok (.aload_n 0, 1) := by decide +kernel
theorem d_Minit_32 : decode b_Minit 32 = .ok (.sipush 301, 3) := by decide +kernel
theorem d_Minit_35 : decode b_Minit 35 = .ok (.newarray .int, 2) := by decide +kernel
theorem d_Minit_37 : decode b_Minit 37 = .ok (.putfield 19, 3) := by decide +kernel
theorem d_Minit_40 : decode b_Minit 40 = .ok (.aload_n 0, 1) := by decide +kernel
theorem d_Minit_41 : decode b_Minit 41 = .ok (.sipush 301, 3) := by decide +kernel
theorem d_Minit_44 : decode b_Minit 44 = .ok (.newarray .int, 2) := by decide +kernel
theorem d_Minit_46 : decode b_Minit 46 = .ok (.putfield 22, 3) := by decide +kernel
theorem d_Minit_49 : decode b_Minit 49 = .ok (.aload_n 0, 1) := by decide +kernel
theorem d_Minit_50 : decode b_Minit 50 = .ok (.sipush 301, 3) := by decide +kernel
theorem d_Minit_53 : decode b_Minit 53 = .ok (.newarray .int, 2) := by decide +kernel
theorem d_Minit_55 : decode b_Minit 55 = .ok (.putfield 25, 3) := by decide +kernel
theorem d_Minit_58 : decode b_Minit 58 = .ok (.aload_n 0, 1) := by decide +kernel
theorem d_Minit_59 : decode b_Minit 59 = .ok (.iconst 1, 1) := by decide +kernel
theorem d_Minit_60 : decode b_Minit 60 = .ok (.putfield 28, 3) := by decide +kernel
theorem d_Minit_63 : decode b_Minit 63 = .ok (.aload_n 0, 1) := by decide +kernel
theorem d_Minit_64 : decode b_Minit 64 = .ok (.sipush 1204, 3) := by decide +kernel
theorem d_Minit_67 : decode b_Minit 67 = .ok (.newarray .boolean, 2) := by decide +kernel
theorem d_Minit_69 : decode b_Minit 69 = .ok (.putfield 32, 3) := by decide +kernel
theorem d_Minit_72 : decode b_Minit 72 = .ok (.aload_n 0, 1) := by decide +kernel
theorem d_Minit_73 : decode b_Minit 73 = .ok (.iconst 4, 1) := by decide +kernel
theorem d_Minit_74 : decode b_Minit 74 = .ok (.newarray .int, 2) := by decide +kernel
theorem d_Minit_76 : decode b_Minit 76 = .ok (.putfield 36, 3) := by decide +kernel
theorem d_Minit_79 : decode b_Minit 79 = .ok (.aload_n 0, 1) := by decide +kernel
theorem d_Minit_80 : decode b_Minit 80 = .ok (.iconst 4, 1) := by decide +kernel
theorem d_Minit_81 : decode b_Minit 81 = .ok (.newarray .int, 2) := by decide +kernel
theorem d_Minit_83 : decode b_Minit 83 = .ok (.putfield 39, 3) := by decide +kernel
theorem d_Minit_86 : decode b_Minit 86 = .ok (.aload_n 0, 1) := by decide +kernel
theorem d_Minit_87 : decode b_Minit 87 = .ok (.iconst (-1), 1) := by decide +kernel
theorem d_Minit_88 : decode b_Minit 88 = .ok (.putfield 42, 3) := by decide +kernel
theorem d_Minit_91 : decode b_Minit 91 = .ok (.aload_n 0, 1) := by decide +kernel
theorem d_Minit_92 : decode b_Minit 92 = .ok (.bipush 40, 2) := by decide +kernel
theorem d_Minit_94 : decode b_Minit 94 = .ok (.newarray .boolean, 2) := by decide +kernel
theorem d_Minit_96 : decode b_Minit 96 = .ok (.putfield 45, 3) := by decide +kernel
theorem d_Minit_99 : decode b_Minit 99 = .ok (.aload_n 0, 1) := by decide +kernel
theorem d_Minit_100 : decode b_Minit 100 = .ok (.bipush 40, 2) := by decide +kernel
theorem d_Minit_102 : decode b_Minit 102 = .ok (.newarray .int, 2) := by decide +kernel
theorem d_Minit_104 : decode b_Minit 104 = .ok (.putfield 48, 3) := by decide +kernel
theorem d_Minit_107 : decode b_Minit 107 = .ok (.aload_n 0, 1) := by decide +kernel
theorem d_Minit_108 : decode b_Minit 108 = .ok (.bipush 40, 2) := by decide +kernel
theorem d_Minit_110 : decode b_Minit 110 = .ok (.newarray .int, 2) := by decide +kernel
theorem d_Minit_112 : decode b_Minit 112 = .ok (.putfield 51, 3) := by decide +kernel
theorem d_Minit_115 : decode b_Minit 115 = .ok (.aload_n 0, 1) := by decide +kernel
theorem d_Minit_116 : decode b_Minit 116 = .ok (.bipush 41, 2) := by decide +kernel
theorem d_Minit_118 : decode b_Minit 118 = .ok (.newarray .int, 2) := by decide +kernel
theorem d_Minit_120 : decode b_Minit 120 = .ok (.putfield 54, 3) := by decide +kernel
theorem d_Minit_123 : decode b_Minit 123 = .ok (.aload_n 0, 1) := by decide +kernel
theorem d_Minit_124 : decode b_Minit 124 = .ok (.sipush 1640, 3) := by decide +kernel
theorem d_Minit_127 : decode b_Minit 127 = .ok (.newarray .int, 2) := by decide +kernel
theorem d_Minit_129 : decode b_Minit 129 = .ok (.putfield 57, 3) := by decide +kernel
theorem d_Minit_132 : decode b_Minit 132 = .ok (.aload_n 0, 1) := by decide +kernel
theorem d_Minit_133 : decode b_Minit 133 = .ok (.sipush 301, 3) := by decide +kernel
theorem d_Minit_136 : decode b_Minit 136 = .ok (.newarray .int, 2) := by decide +kernel
theorem d_Minit_138 : decode b_Minit 138 = .ok (.putfield 60, 3) := by decide +kernel
theorem d_Minit_141 : decode b_Minit 141 = .ok (.aload_n 0, 1) := by decide +kernel
theorem d_Minit_142 : decode b_Minit 142 = .ok (.sipush 301, 3) := by decide +kernel
theorem d_Minit_145 : decode b_Minit 145 = .ok (.newarray .int, 2) := by decide +kernel
theorem d_Minit_147 : decode b_Minit 147 = .ok (.putfield 63, 3) := by decide +kernel
theorem d_Minit_150 : decode b_Minit 150 = .ok (.aload_n 0, 1) := by decide +kernel
theorem d_Minit_151 : decode b_Minit 151 = .ok (.sipush 301, 3) := by decide +kernel
theorem d_Minit_154 : decode b_Minit 154 = .ok (.newarray .int, 2) := by decide +kernel
theorem d_Minit_156 : decode b_Minit 156 = .ok (.putfield 66, 3) := by decide +kernel
theorem d_Minit_159 : decode b_Minit 159 = .ok (.aload_n 0, 1) := by decide +kernel
theorem d_Minit_160 : decode b_Minit 160 = .ok (.bipush 41, 2) := by decide +kernel
theorem d_Minit_162 : decode b_Minit 162 = .ok (.newarray .int, 2) := by decide +kernel
theorem d_Minit_164 : decode b_Minit 164 = .ok (.putfield 69, 3) := by decide +kernel
theorem d_Minit_167 : decode b_Minit 167 = .ok (.aload_n 0, 1) := by decide +kernel
theorem d_Minit_168 : decode b_Minit 168 = .ok (.sipush 1640, 3) := by decide +kernel
theorem d_Minit_171 : decode b_Minit 171 = .ok (.newarray .int, 2) := by decide +kernel
theorem d_Minit_173 : decode b_Minit 173 = .ok (.putfield 72, 3) := by decide +kernel
theorem d_Minit_176 : decode b_Minit 176 = .ok (.aload_n 0, 1) := by decide +kernel
theorem d_Minit_177 : decode b_Minit 177 = .ok (.bipush 40, 2) := by decide +kernel
theorem d_Minit_179 : decode b_Minit 179 = .ok (.newarray .boolean, 2) := by decide +kernel
theorem d_Minit_181 : decode b_Minit 181 = .ok (.putfield 75, 3) := by decide +kernel
theorem d_Minit_184 : decode b_Minit 184 = .ok (.return_, 1) := by decide +kernel
theorem d_Mmake_0 : decode b_Mmake 0 = .ok (.aload_n 0, 1) := by decide +kernel
theorem d_Mmake_1 : decode b_Mmake 1 = .ok (.iconst 0, 1) := by decide +kernel
theorem d_Mmake_2 : decode b_Mmake 2 = .ok (.putfield 78, 3) := by decide +kernel
theorem d_Mmake_5 : decode b_Mmake 5 = .ok (.iload_n 1, 1) := by decide +kernel
theorem d_Mmake_6 : decode b_Mmake 6 = .ok (.invokestatic 152, 3) := by decide +kernel
theorem d_Mmake_9 : decode b_Mmake 9 = .ok (.ifCond .eq 22, 3) := by decide +kernel
theorem d_Mmake_12 : decode b_Mmake 12 = .ok (.aload_n 0, 1) := by decide +kernel
theorem d_Mmake_13 : decode b_Mmake 13 = .ok (.getfield 28, 3) := by decide +kernel
theorem d_Mmake_16 : decode b_Mmake 16 = .ok (.bipush 40, 2) := by decide +kernel
theorem d_Mmake_18 : decode b_Mmake 18 = .ok (.if_icmp .eq 13, 3) := by decide +kernel
theorem d_Mmake_21 : decode b_Mmake 21 = .ok (.aload_n 0, 1) := by decide +kernel
theorem d_Mmake_22 : decode b_Mmake 22 = .ok (.getfield 81, 3) := by decide +kernel
theorem d_Mmake_25 : decode b_Mmake 25 = .ok (.sipush 300, 3) := by decide +kernel
theorem d_Mmake_28 : decode b_Mmake 28 = .ok (.if_icmp .ne 5, 3) := by decide +kernel
theorem d_Mmake_31 : decode b_Mmake 31 = .ok (.iconst (-1), 1) := by decide +kernel
theorem d_Mmake_32 : decode b_Mmake 32 = .ok (.ireturn, 1) := by decide +kernel
theorem d_Mmake_33 : decode b_Mmake 33 = .ok (.aload_n 0, 1) := by decide +kernel
theorem d_Mmake_34 : decode b_Mmake 34 = .ok (.dup, 1) := by decide +kernel
theorem d_Mmake_35 : decode b_Mmake 35 = .ok (.getfield 28, 3) := by decide +kernel
theorem d_Mmake_38 : decode b_Mmake 38 = .ok (.iconst 1, 1) := by decide +kernel
theorem d_Mmake_39 : decode b_Mmake 39 = .ok (.iadd, 1) := by decide +kernel
theorem d_Mmake_40 : decode b_Mmake 40 = .ok (.putfield 28, 3) := by decide +kernel
theorem d_Mmake_43 : decode b_Mmake 43 = .ok (.aload_n 0, 1) := by decide +kernel
theorem d_Mmake_44 : decode b_Mmake 44 = .ok (.iload_n 1, 1) := by decide +kernel
theorem d_Mmake_45 : decode b_Mmake 45 = .ok (.iconst 0, 1) := by decide +kernel
theorem d_Mmake_46 : decode b_Mmake 46 = .ok (.aload_n 0, 1) := by decide +kernel
theorem d_Mmake_47 : decode b_Mmake 47 = .ok (.getfield 28, 3) := by decide +kernel
theorem d_Mmake_50 : decode b_Mmake 50 = .ok (.iconst 1, 1) := by decide +kernel
theorem d_Mmake_51 : decode b_Mmake 51 = .ok (.isub, 1) := by decide +kernel
theorem d_Mmake_52 : decode b_Mmake 52 = .ok (.iconst (-1), 1) := by decide +kernel
theorem d_Mmake_53 : decode b_Mmake 53 = .ok (.iconst (-1), 1) := by decide +kernel
theorem d_Mmake_54 : decode b_Mmake 54 = .ok (.invokevirtual 155, 3) := by decide +kernel
theorem d_Mmake_57 : decode b_Mmake 57 = .ok (.istore_n 2, 1) := by decide +kernel
theorem d_Mmake_58 : decode b_Mmake 58 = .ok (.aload_n 0, 1) := by decide +kernel
theorem d_Mmake_59 : decode b_Mmake 59 = .ok (.getfield 19, 3) := by decide +kernel
theorem d_Mmake_62 : decode b_Mmake 62 = .ok (.iload_n 2, 1) := by decide +kernel
theorem d_Mmake_63 : decode b_Mmake 63 = .ok (.iaload, 1) := by decide +kernel
theorem d_Mmake_64 : decode b_Mmake 64 = .ok (.ireturn, 1) := by decide +kernel
theorem d_MisNode_0 : decode b_MisNode 0 = .ok (.iload_n 0, 1) := by decide +kernel
theorem d_MisNode_1 : decode b_MisNode 1 = .ok (.iconst 0, 1) := by decide +kernel
theorem d_MisNode_2 : decode b_MisNode 2 = .ok (.iconst 3, 1) := by decide +kernel
theorem d_MisNode_3 : decode b_MisNode 3 = .ok (.invokestatic 148, 3) := by decide +kernel
theorem d_MisNode_6 : decode b_MisNode 6 = .ok (.ireturn, 1) := by decide +kernel
theorem d_Mwithin_0 : decode b_Mwithin 0 = .ok (.iload_n 0, 1) := by decide +kernel
theorem d_Mwithin_1 : decode b_Mwithin 1 = .ok (.iload_n 1, 1) := by decide +kernel
theorem d_Mwithin_2 : decode b_Mwithin 2 = .ok (.if_icmp .lt 12, 3) := by decide +kernel
theorem d_Mwithin_5 : decode b_Mwithin 5 = .ok (.iload_n 0, 1) := by decide +kernel
theorem d_Mwithin_6 : decode b_Mwithin 6 = .ok (.iload_n 2, 1) := by decide +kernel
theorem d_Mwithin_7 : decode b_Mwithin 7 = .ok (.if_icmp .gt 7, 3) := by decide +kernel
theorem d_Mwithin_10 : decode b_Mwithin 10 = .ok (.iconst 1, 1) := by decide +kernel
theorem d_Mwithin_11 : decode b_Mwithin 11 = .ok (.goto 4, 3) := by decide +kernel
theorem d_Mwithin_14 : decode b_Mwithin 14 = .ok (.iconst 0, 1) := by decide +kernel
theorem d_Mwithin_15 : decode b_Mwithin 15 = .ok (.ireturn, 1) := by decide +kernel
theorem d_Madd_0 : decode b_Madd 0 = .ok (.aload_n 0, 1) := by decide +kernel
theorem d_Madd_1 : decode b_Madd 1 = .ok (.dup, 1) := by decide +kernel
theorem d_Madd_2 : decode b_Madd 2 = .ok (.getfield 81, 3) := by decide +kernel
theorem d_Madd_5 : decode b_Madd 5 = .ok (.iconst 1, 1) := by decide +kernel
theorem d_Madd_6 : decode b_Madd 6 = .ok (.iadd, 1) := by decide +kernel
theorem d_Madd_7 : decode b_Madd 7 = .ok (.putfield 81, 3) := by decide +kernel
theorem d_Madd_10 : decode b_Madd 10 = .ok (.aload_n 0, 1) := by decide +kernel
theorem d_Madd_11 : decode b_Madd 11 = .ok (.getfield 7, 3) := by decide +kernel
theorem d_Madd_14 : decode b_Madd 14 = .ok (.aload_n 0, 1) := by decide +kernel
theorem d_Madd_15 : decode b_Madd 15 = .ok (.getfield 81, 3) := by decide +kernel
theorem d_Madd_18 : decode b_Madd 18 = .ok (.iload_n 2, 1) := by decide +kernel
theorem d_Madd_19 : decode b_Madd 19 = .ok (.iastore, 1) := by decide +kernel
theorem d_Madd_20 : decode b_Madd 20 = .ok (.aload_n 0, 1) := by decide +kernel
theorem d_Madd_21 : decode b_Madd 21 = .ok (.getfield 13, 3) := by decide +kernel
theorem d_Madd_24 : decode b_Madd 24 = .ok (.aload_n 0, 1) := by decide +kernel
theorem d_Madd_25 : decode b_Madd 25 = .ok (.getfield 81, 3) := by decide +kernel
theorem d_Madd_28 : decode b_Madd 28 = .ok (.iload_n 1, 1) := by decide +kernel
theorem d_Madd_29 : decode b_Madd 29 = .ok (.iastore, 1) := by decide +kernel
theorem d_Madd_30 : decode b_Madd 30 = .ok (.aload_n 0, 1) := by decide +kernel
theorem d_Madd_31 : decode b_Madd 31 = .ok (.getfield 16, 3) := by decide +kernel
theorem d_Madd_34 : decode b_Madd 34 = .ok (.aload_n 0, 1) := by decide +kernel
theorem d_Madd_35 : decode b_Madd 35 = .ok (.getfield 81, 3) := by decide +kernel
theorem d_Madd_38 : decode b_Madd 38 = .ok (.aload_n 0, 1) := by decide +kernel
theorem d_Madd_39 : decode b_Madd 39 = .ok (.getfield 36, 3) := by decide +kernel
theorem d_Madd_42 : decode b_Madd 42 = .ok (.iload_n 1, 1) := by decide +kernel
theorem d_Madd_43 : decode b_Madd 43 = .ok (.iaload, 1) := by decide +kernel
theorem d_Madd_44 : decode b_Madd 44 = .ok (.iconst 1, 1) := by decide +kernel
theorem d_Madd_45 : decode b_Madd 45 = .ok (.iadd, 1) := by decide +kernel
theorem d_Madd_46 : decode b_Madd 46 = .ok (.iastore, 1) := by decide +kernel
theorem d_Madd_47 : decode b_Madd 47 = .ok (.aload_n 0, 1) := by decide +kernel
theorem d_Madd_48 : decode b_Madd 48 = .ok (.getfield 19, 3) := by decide +kernel
theorem d_Madd_51 : decode b_Madd 51 = .ok (.aload_n 0, 1) := by decide +kernel
theorem d_Madd_52 : decode b_Madd 52 = .ok (.getfield 81, 3) := by decide +kernel
theorem d_Madd_55 : decode b_Madd 55 = .ok (.iload_n 3, 1) := by decide +kernel
theorem d_Madd_56 : decode b_Madd 56 = .ok (.iastore, 1) := by decide +kernel
theorem d_Madd_57 : decode b_Madd 57 = .ok (.aload_n 0, 1) := by decide +kernel
theorem d_Madd_58 : decode b_Madd 58 = .ok (.getfield 22, 3) := by decide +kernel
theorem d_Madd_61 : decode b_Madd 61 = .ok (.aload_n 0, 1) := by decide +kernel
theorem d_Madd_62 : decode b_Madd 62 = .ok (.getfield 81, 3) := by decide +kernel
theorem d_Madd_65 : decode b_Madd 65 = .ok (.iload 4, 2) := by decide +kernel
theorem d_Madd_67 : decode b_Madd 67 = .ok (.iastore, 1) := by decide +kernel
theorem d_Madd_68 : decode b_Madd 68 = .ok (.aload_n 0, 1) := by decide +kernel
theorem d_Madd_69 : decode b_Madd 69 = .ok (.getfield 25, 3) := by decide +kernel
theorem d_Madd_72 : decode b_Madd 72 = .ok (.aload_n 0, 1) := by decide +kernel
theorem d_Madd_73 : decode b_Madd 73 = .ok (.getfield 81, 3) := by decide +kernel
theorem d_Madd_76 : decode b_Madd 76 = .ok (.iload 5, 2) := by decide +kernel
theorem d_Madd_78 : decode b_Madd 78 = .ok (.iastore, 1) := by decide +kernel
theorem d_Madd_79 : decode b_Madd 79 = .ok (.aload_n 0, 1) := by decide +kernel
theorem d_Madd_80 : decode b_Madd 80 = .ok (.iload_n 1, 1) := by decide +kernel
theorem d_Madd_81 : decode b_Madd 81 = .ok (.aload_n 0, 1) := by decide +kernel
theorem d_Madd_82 : decode b_Madd 82 = .ok (.getfield 81, 3) := by decide +kernel
theorem d_Madd_85 : decode b_Madd 85 = .ok (.invokevirtual 144, 3) := by decide +kernel
theorem d_Madd_88 : decode b_Madd 88 = .ok (.aload_n 0, 1) := by decide +kernel
theorem d_Madd_89 : decode b_Madd 89 = .ok (.getfield 81, 3) := by decide +kernel
theorem d_Madd_92 : decode b_Madd 92 = .ok (.ireturn, 1) := by decide +kernel
theorem d_Mlearn_0 : decode b_Mlearn 0 = .ok (.aload_n 0, 1) := by decide +kernel
theorem d_Mlearn_1 : decode b_Mlearn 1 = .ok (.getfield 32, 3) := by decide +kernel
theorem d_Mlearn_4 : decode b_Mlearn 4 = .ok (.sipush 301, 3) := by decide +kernel
theorem d_Mlearn_7 : decode b_Mlearn 7 = .ok (.iload_n 1, 1) := by decide +kernel
theorem d_Mlearn_8 : decode b_Mlearn 8 = .ok (.imul, 1) := by decide +kernel
theorem d_Mlearn_9 : decode b_Mlearn 9 = .ok (.iload_n 2, 1) := by decide +kernel
theorem d_Mlearn_10 : decode b_Mlearn 10 = .ok (.iadd, 1) := by decide +kernel
theorem d_Mlearn_11 : decode b_Mlearn 11 = .ok (.iconst 1, 1) := by decide +kernel
theorem d_Mlearn_12 : decode b_Mlearn 12 = .ok (.bastore, 1) := by decide +kernel
theorem d_Mlearn_13 : decode b_Mlearn 13 = .ok (.aload_n 0, 1) := by decide +kernel
theorem d_Mlearn_14 : decode b_Mlearn 14 = .ok (.getfield 36, 3) := by decide +kernel
theorem d_Mlearn_17 : decode b_Mlearn 17 = .ok (.iload_n 1, 1) := by decide +kernel
theorem d_Mlearn_18 : decode b_Mlearn 18 = .ok (.aload_n 0, 1) := by decide +kernel
theorem d_Mlearn_19 : decode b_Mlearn 19 = .ok (.getfield 16, 3) := by decide +kernel
theorem d_Mlearn_22 : decode b_Mlearn 22 = .ok (.iload_n 2, 1) := by decide +kernel
theorem d_Mlearn_23 : decode b_Mlearn 23 = .ok (.iaload, 1) := by decide +kernel
theorem d_Mlearn_24 : decode b_Mlearn 24 = .ok (.aload_n 0, 1) := by decide +kernel
theorem d_Mlearn_25 : decode b_Mlearn 25 = .ok (.getfield 36, 3) := by decide +kernel
theorem d_Mlearn_28 : decode b_Mlearn 28 = .ok (.iload_n 1, 1) := by decide +kernel
theorem d_Mlearn_29 : decode b_Mlearn 29 = .ok (.iaload, 1) := by decide +kernel
theorem d_Mlearn_30 : decode b_Mlearn 30 = .ok (.if_icmp .le 12, 3) := by decide +kernel
theorem d_Mlearn_33 : decode b_Mlearn 33 = .ok (.aload_n 0, 1) := by decide +kernel
theorem d_Mlearn_34 : decode b_Mlearn 34 = .ok (.getfield 16, 3) := by decide +kernel
theorem d_Mlearn_37 : decode b_Mlearn 37 = .ok (.iload_n 2, 1) := by decide +kernel
theorem d_Mlearn_38 : decode b_Mlearn 38 = .ok (.iaload, 1) := by decide +kernel
theorem d_Mlearn_39 : decode b_Mlearn 39 = .ok (.goto 9, 3) := by decide +kernel
theorem d_Mlearn_42 : decode b_Mlearn 42 = .ok (.aload_n 0, 1) := by decide +kernel
theorem d_Mlearn_43 : decode b_Mlearn 43 = .ok (.getfield 36, 3) := by decide +kernel
theorem d_Mlearn_46 : decode b_Mlearn 46 = .ok (.iload_n 1, 1) := by decide +kernel
theorem d_Mlearn_47 : decode b_Mlearn 47 = .ok (.iaload, 1) := by decide +kernel
theorem d_Mlearn_48 : decode b_Mlearn 48 = .ok (.iastore, 1) := by decide +kernel
theorem d_Mlearn_49 : decode b_Mlearn 49 = .ok (.aload_n 0, 1) := by decide +kernel
theorem d_Mlearn_50 : decode b_Mlearn 50 = .ok (.getfield 39, 3) := by decide +kernel
theorem d_Mlearn_53 : decode b_Mlearn 53 = .ok (.iload_n 1, 1) := by decide +kernel
theorem d_Mlearn_54 : decode b_Mlearn 54 = .ok (.aload_n 0, 1) := by decide +kernel
theorem d_Mlearn_55 : decode b_Mlearn 55 = .ok (.iload_n 1, 1) := by decide +kernel
theorem d_Mlearn_56 : decode b_Mlearn 56 = .ok (.iload_n 2, 1) := by decide +kernel
theorem d_Mlearn_57 : decode b_Mlearn 57 = .ok (.invokevirtual 141, 3) := by decide +kernel
theorem d_Mlearn_60 : decode b_Mlearn 60 = .ok (.iastore, 1) := by decide +kernel
theorem d_Mlearn_61 : decode b_Mlearn 61 = .ok (.aload_n 0, 1) := by decide +kernel
theorem d_Mlearn_62 : decode b_Mlearn 62 = .ok (.iconst (-1), 1) := by decide +kernel
theorem d_Mlearn_63 : decode b_Mlearn 63 = .ok (.putfield 42, 3) := by decide +kernel
theorem d_Mlearn_66 : decode b_Mlearn 66 = .ok (.return_, 1) := by decide +kernel
theorem d_McostOf_0 : decode b_McostOf 0 = .ok (.aload_n 0, 1) := by decide +kernel
theorem d_McostOf_1 : decode b_McostOf 1 = .ok (.getfield 7, 3) := by decide +kernel
theorem d_McostOf_4 : decode b_McostOf 4 = .ok (.iload_n 2, 1) := by decide +kernel
theorem d_McostOf_5 : decode b_McostOf 5 = .ok (.iaload, 1) := by decide +kernel
theorem d_McostOf_6 : decode b_McostOf 6 = .ok (.iconst 4, 1) := by decide +kernel
theorem d_McostOf_7 : decode b_McostOf 7 = .ok (.if_icmp .ne 12, 3) := by decide +kernel
theorem d_McostOf_10 : decode b_McostOf 10 = .ok (.aload_n 0, 1) := by decide +kernel
theorem d_McostOf_11 : decode b_McostOf 11 = .ok (.getfield 19, 3) := by decide +kernel
theorem d_McostOf_14 : decode b_McostOf 14 = .ok (.iload_n 2, 1) := by decide +kernel
theorem d_McostOf_15 : decode b_McostOf 15 = .ok (.iaload, 1) := by decide +kernel
theorem d_McostOf_16 : decode b_McostOf 16 = .ok (.goto 4, 3) := by decide +kernel
theorem d_McostOf_19 : decode b_McostOf 19 = .ok (.iload_n 2, 1) := by decide +kernel
theorem d_McostOf_20 : decode b_McostOf 20 = .ok (.istore_n 3, 1) := by decide +kernel
theorem d_McostOf_21 : decode b_McostOf 21 = .ok (.aload_n 0, 1) := by decide +kernel
theorem d_McostOf_22 : decode b_McostOf 22 = .ok (.iload_n 1, 1) := by decide +kernel
theorem d_McostOf_23 : decode b_McostOf 23 = .ok (.iload_n 3, 1) := by decide +kernel
theorem d_McostOf_24 : decode b_McostOf 24 = .ok (.invokevirtual 84, 3) := by decide +kernel
theorem d_McostOf_27 : decode b_McostOf 27 = .ok (.ifCond .ne 5, 3) := by decide +kernel
theorem d_McostOf_30 : decode b_McostOf 30 = .ok (.iconst 0, 1) := by decide +kernel
theorem d_McostOf_31 : decode b_McostOf 31 = .ok (.ireturn, 1) := by decide +kernel
theorem d_McostOf_32 : decode b_McostOf 32 = .ok (.iconst 0, 1) := by decide +kernel
theorem d_McostOf_33 : decode b_McostOf 33 = .ok (.istore 4, 2) := by decide +kernel
theorem d_McostOf_35 : decode b_McostOf 35 = .ok (.iconst 1, 1) := by decide +kernel
theorem d_McostOf_36 : decode b_McostOf 36 = .ok (.istore 5, 2) := by decide +kernel
theorem d_McostOf_38 : decode b_McostOf 38 = .ok (.iload 5, 2) := by decide +kernel
theorem d_McostOf_40 : decode b_McostOf 40 = .ok (.aload_n 0, 1) := by decide +kernel
theorem d_McostOf_41 : decode b_McostOf 41 = .ok (.getfield 81, 3) := by decide +kernel
theorem d_McostOf_44 : decode b_McostOf 44 = .ok (.if_icmp .gt 43, 3) := by decide +kernel
theorem d_McostOf_47 : decode b_McostOf 47 = .ok (.aload_n 0, 1) := by decide +kernel
theorem d_McostOf_48 : decode b_McostOf 48 = .ok (.iload_n 1, 1) := by decide +kernel
theorem d_McostOf_49 : decode b_McostOf 49 = .ok (.iload 5, 2) := by decide +kernel
theorem d_McostOf_51 : decode b_McostOf 51 = .ok (.invokevirtual 84, 3) := by decide +kernel
theorem d_McostOf_54 : decode b_McostOf 54 = .ok (.ifCond .eq 27, 3) := by decide +kernel
theorem d_McostOf_57 : decode b_McostOf 57 = .ok (.aload_n 0, 1) := by decide +kernel
theorem d_McostOf_58 : decode b_McostOf 58 = .ok (.getfield 7, 3) := by decide +kernel
theorem d_McostOf_61 : decode b_McostOf 61 = .ok (.iload 5, 2) := by decide +kernel
theorem d_McostOf_63 : decode b_McostOf 63 = .ok (.iaload, 1) := by decide +kernel
theorem d_McostOf_64 : decode b_McostOf 64 = .ok (.iconst 4, 1) := by decide +kernel
theorem d_McostOf_65 : decode b_McostOf 65 = .ok (.if_icmp .eq 16, 3) := by decide +kernel
theorem d_McostOf_68 : decode b_McostOf 68 = .ok (.aload_n 0, 1) := by decide +kernel
theorem d_McostOf_69 : decode b_McostOf 69 = .ok (.iload 5, 2) := by decide +kernel
theorem d_McostOf_71 : decode b_McostOf 71 = .ok (.iload_n 3, 1) := by decide +kernel
theorem d_McostOf_72 : decode b_McostOf 72 = .ok (.invokevirtual 91, 3) := by decide +kernel
theorem d_McostOf_75 : decode b_McostOf 75 = .ok (.ifCond .ne 6, 3) := by decide +kernel
theorem d_McostOf_78 : decode b_McostOf 78 = .ok (.iinc 4 1, 3) := by decide +kernel
theorem d_McostOf_81 : decode b_McostOf 81 = .ok (.iinc 5 1, 3) := by decide +kernel
theorem d_McostOf_84 : decode b_McostOf 84 = .ok (.goto (-46), 3) := by decide +kernel
theorem d_McostOf_87 : decode b_McostOf 87 = .ok (.iload 4, 2) := by decide +kernel
theorem d_McostOf_89 : decode b_McostOf 89 = .ok (.ireturn, 1) := by decide +kernel
theorem d_MknowsRow_0 : decode b_MknowsRow 0 = .ok (.aload_n 0, 1) := by decide +kernel
theorem d_MknowsRow_1 : decode b_MknowsRow 1 = .ok (.getfield 32, 3) := by decide +kernel
theorem d_MknowsRow_4 : decode b_MknowsRow 4 = .ok (.sipush 301, 3) := by decide +kernel
theorem d_MknowsRow_7 : decode b_MknowsRow 7 = .ok (.iload_n 1, 1) := by decide +kernel
theorem d_MknowsRow_8 : decode b_MknowsRow 8 = .ok (.imul, 1) := by decide +kernel
theorem d_MknowsRow_9 : decode b_MknowsRow 9 = .ok (.iload_n 2, 1) := by decide +kernel
theorem d_MknowsRow_10 : decode b_MknowsRow 10 = .ok (.iadd, 1) := by decide +kernel
theorem d_MknowsRow_11 : decode b_MknowsRow 11 = .ok (.baload, 1) := by decide +kernel
theorem d_MknowsRow_12 : decode b_MknowsRow 12 = .ok (.ireturn, 1) := by decide +kernel
theorem d_MisBefore_0 : decode b_MisBefore 0 = .ok (.aload_n 0, 1) := by decide +kernel
theorem d_MisBefore_1 : decode b_MisBefore 1 = .ok (.getfield 16, 3) := by decide +kernel
theorem d_MisBefore_4 : decode b_MisBefore 4 = .ok (.iload_n 1, 1) := by decide +kernel
theorem d_MisBefore_5 : decode b_MisBefore 5 = .ok (.iaload, 1) := by decide +kernel
theorem d_MisBefore_6 : decode b_MisBefore 6 = .ok (.aload_n 0, 1) := by decide +kernel
theorem d_MisBefore_7 : decode b_MisBefore 7 = .ok (.getfield 16, 3) := by decide +kernel
theorem d_MisBefore_10 : decode b_MisBefore 10 = .ok (.iload_n 2, 1) := by decide +kernel
theorem d_MisBefore_11 : decode b_MisBefore 11 = .ok (.iaload, 1) := by decide +kernel
theorem d_MisBefore_12 : decode b_MisBefore 12 = .ok (.if_icmp .eq 26, 3) := by decide +kernel
theorem d_MisBefore_15 : decode b_MisBefore 15 = .ok (.aload_n 0, 1) := by decide +kernel
theorem d_MisBefore_16 : decode b_MisBefore 16 = .ok (.getfield 16, 3) := by decide +kernel
theorem d_MisBefore_19 : decode b_MisBefore 19 = .ok (.iload_n 1, 1) := by decide +kernel
theorem d_MisBefore_20 : decode b_MisBefore 20 = .ok (.iaload, 1) := by decide +kernel
theorem d_MisBefore_21 : decode b_MisBefore 21 = .ok (.aload_n 0, 1) := by decide +kernel
theorem d_MisBefore_22 : decode b_MisBefore 22 = .ok (.getfield 16, 3) := by decide +kernel
theorem d_MisBefore_25 : decode b_MisBefore 25 = .ok (.iload_n 2, 1) := by decide +kernel
theorem d_MisBefore_26 : decode b_MisBefore 26 = .ok (.iaload, 1) := by decide +kernel
theorem d_MisBefore_27 : decode b_MisBefore 27 = .ok (.if_icmp .ge 7, 3) := by decide +kernel
theorem d_MisBefore_30 : decode b_MisBefore 30 = .ok (.iconst 1, 1) := by decide +kernel
theorem d_MisBefore_31 : decode b_MisBefore 31 = .ok (.goto 27, 3) := by decide +kernel
theorem d_MisBefore_34 : decode b_MisBefore 34 = .ok (.iconst 0, 1) := by decide +kernel
theorem d_MisBefore_35 : decode b_MisBefore 35 = .ok (.goto 23, 3) := by decide +kernel
theorem d_MisBefore_38 : decode b_MisBefore 38 = .ok (.aload_n 0, 1) := by decide +kernel
theorem d_MisBefore_39 : decode b_MisBefore 39 = .ok (.getfield 13, 3) := by decide +kernel
theorem d_MisBefore_42 : decode b_MisBefore 42 = .ok (.iload_n 1, 1) := by decide +kernel
theorem d_MisBefore_43 : decode b_MisBefore 43 = .ok (.iaload, 1) := by decide +kernel
theorem d_MisBefore_44 : decode b_MisBefore 44 = .ok (.aload_n 0, 1) := by decide +kernel
theorem d_MisBefore_45 : decode b_MisBefore 45 = .ok (.getfield 13, 3) := by decide +kernel
theorem d_MisBefore_48 : decode b_MisBefore 48 = .ok (.iload_n 2, 1) := by decide +kernel
theorem d_MisBefore_49 : decode b_MisBefore 49 = .ok (.iaload, 1) := by decide +kernel
theorem d_MisBefore_50 : decode b_MisBefore 50 = .ok (.if_icmp .ge 7, 3) := by decide +kernel
theorem d_MisBefore_53 : decode b_MisBefore 53 = .ok (.iconst 1, 1) := by decide +kernel
theorem d_MisBefore_54 : decode b_MisBefore 54 = .ok (.goto 4, 3) := by decide +kernel
theorem d_MisBefore_57 : decode b_MisBefore 57 = .ok (.iconst 0, 1) := by decide +kernel
theorem d_MisBefore_58 : decode b_MisBefore 58 = .ok (.ireturn, 1) := by decide +kernel
theorem d_Mmove_0 : decode b_Mmove 0 = .ok (.aload_n 0, 1) := by decide +kernel
theorem d_Mmove_1 : decode b_Mmove 1 = .ok (.iconst 0, 1) := by decide +kernel
theorem d_Mmove_2 : decode b_Mmove 2 = .ok (.putfield 78, 3) := by decide +kernel
theorem d_Mmove_5 : decode b_Mmove 5 = .ok (.iload_n 1, 1) := by decide +kernel
theorem d_Mmove_6 : decode b_Mmove 6 = .ok (.invokestatic 152, 3) := by decide +kernel
theorem d_Mmove_9 : decode b_Mmove 9 = .ok (.ifCond .eq 56, 3) := by decide +kernel
theorem d_Mmove_12 : decode b_Mmove 12 = .ok (.iload_n 2, 1) := by decide +kernel
theorem d_Mmove_13 : decode b_Mmove 13 = .ok (.iconst 1, 1) := by decide +kernel
theorem d_Mmove_14 : decode b_Mmove 14 = .ok (.aload_n 0, 1) := by decide +kernel
theorem d_Mmove_15 : decode b_Mmove 15 = .ok (.getfield 28, 3) := by decide +kernel
theorem d_Mmove_18 : decode b_Mmove 18 = .ok (.iconst 1, 1) := by decide +kernel
theorem d_Mmove_19 : decode b_Mmove 19 = .ok (.isub, 1) := by decide +kernel
theorem d_Mmove_20 : decode b_Mmove 20 = .ok (.invokestatic 148, 3) := by decide +kernel
theorem d_Mmove_23 : decode b_Mmove 23 = .ok (.ifCond .eq 42, 3) := by decide +kernel
theorem d_Mmove_26 : decode b_Mmove 26 = .ok (.iload_n 3, 1) := by decide +kernel
theorem d_Mmove_27 : decode b_Mmove 27 = .ok (.iconst 0, 1) := by decide +kernel
theorem d_Mmove_28 : decode b_Mmove 28 = .ok (.aload_n 0, 1) := by decide +kernel
theorem d_Mmove_29 : decode b_Mmove 29 = .ok (.getfield 28, 3) := by decide +kernel
theorem d_Mmove_32 : decode b_Mmove 32 = .ok (.iconst 1, 1) := by decide +kernel
theorem d_Mmove_33 : decode b_Mmove 33 = .ok (.isub, 1) := by decide +kernel
theorem d_Mmove_34 : decode b_Mmove 34 = .ok (.invokestatic 148, 3) := by decide +kernel
theorem d_Mmove_37 : decode b_Mmove 37 = .ok (.ifCond .eq 28, 3) := by decide +kernel
theorem d_Mmove_40 : decode b_Mmove 40 = .ok (.iload 4, 2) := by decide +kernel
theorem d_Mmove_42 : decode b_Mmove 42 = .ok (.iconst (-1), 1) := by decide +kernel
theorem d_Mmove_43 : decode b_Mmove 43 = .ok (.aload_n 0, 1) := by decide +kernel
theorem d_Mmove_44 : decode b_Mmove 44 = .ok (.getfield 28, 3) := by decide +kernel
theorem d_Mmove_47 : decode b_Mmove 47 = .ok (.iconst 1, 1) := by decide +kernel
theorem d_Mmove_48 : decode b_Mmove 48 = .ok (.isub, 1) := by decide +kernel
theorem d_Mmove_49 : decode b_Mmove 49 = .ok (.invokestatic 148, 3) := by decide +kernel
theorem d_Mmove_52 : decode b_Mmove 52 = .ok (.ifCond .eq 13, 3) := by decide +kernel
theorem d_Mmove_55 : decode b_Mmove 55 = .ok (.aload_n 0, 1) := by decide +kernel
theorem d_Mmove_56 : decode b_Mmove 56 = .ok (.getfield 81, 3) := by decide +kernel
theorem d_Mmove_59 : decode b_Mmove 59 = .ok (.sipush 300, 3) := by decide +kernel
theorem d_Mmove_62 : decode b_Mmove 62 = .ok (.if_icmp .ne 5, 3) := by decide +kernel
theorem d_Mmove_65 : decode b_Mmove 65 = .ok (.iconst (-1), 1) := by decide +kernel
theorem d_Mmove_66 : decode b_Mmove 66 = .ok (.ireturn, 1) := by decide +kernel
theorem d_Mmove_67 : decode b_Mmove 67 = .ok (.aload_n 0, 1) := by decide +kernel
theorem d_Mmove_68 : decode b_Mmove 68 = .ok (.iload_n 1, 1) := by decide +kernel
theorem d_Mmove_69 : decode b_Mmove 69 = .ok (.iconst 1, 1) := by decide +kernel
theorem d_Mmove_70 : decode b_Mmove 70 = .ok (.iload_n 2, 1) := by decide +kernel
theorem d_Mmove_71 : decode b_Mmove 71 = .ok (.iload_n 3, 1) := by decide +kernel
theorem d_Mmove_72 : decode b_Mmove 72 = .ok (.iload 4, 2) := by decide +kernel
theorem d_Mmove_74 : decode b_Mmove 74 = .ok (.invokevirtual 155, 3) := by decide +kernel
theorem d_Mmove_77 : decode b_Mmove 77 = .ok (.ireturn, 1) := by decide +kernel
theorem d_Mremove_0 : decode b_Mremove 0 = .ok (.aload_n 0, 1) := by decide +kernel
theorem d_Mremove_1 : decode b_Mremove 1 = .ok (.iconst 0, 1) := by decide +kernel
theorem d_Mremove_2 : decode b_Mremove 2 = .ok (.putfield 78, 3) := by decide +kernel
theorem d_Mremove_5 : decode b_Mremove 5 = .ok (.iload_n 1, 1) := by decide +kernel
theorem d_Mremove_6 : decode b_Mremove 6 = .ok (.invokestatic 152, 3) := by decide +kernel
theorem d_Mremove_9 : decode b_Mremove 9 = .ok (.ifCond .eq 27, 3) := by decide +kernel
theorem d_Mremove_12 : decode b_Mremove 12 = .ok (.iload_n 2, 1) := by decide +kernel
theorem d_Mremove_13 : decode b_Mremove 13 = .ok (.iconst 1, 1) := by decide +kernel
theorem d_Mremove_14 : decode b_Mremove 14 = .ok (.aload_n 0, 1) := by decide +kernel
theorem d_Mremove_15 : decode b_Mremove 15 = .ok (.getfield 28, 3) := by decide +kernel
theorem d_Mremove_18 : decode b_Mremove 18 = .ok (.iconst 1, 1) := by decide +kernel
theorem d_Mremove_19 : decode b_Mremove 19 = .ok (.isub, 1) := by decide +kernel
theorem d_Mremove_20 : decode b_Mremove 20 = .ok (.invokestatic 148, 3) := by decide +kernel
theorem d_Mremove_23 : decode b_Mremove 23 = .ok (.ifCond .eq 13, 3) := by decide +kernel
theorem d_Mremove_26 : decode b_Mremove 26 = .ok (.aload_n 0, 1) := by decide +kernel
theorem d_Mremove_27 : decode b_Mremove 27 = .ok (.getfield 81, 3) := by decide +kernel
theorem d_Mremove_30 : decode b_Mremove 30 = .ok (.sipush 300, 3) := by decide +kernel
theorem d_Mremove_33 : decode b_Mremove 33 = .ok (.if_icmp .ne 5, 3) := by decide +kernel
theorem d_Mremove_36 : decode b_Mremove 36 = .ok (.iconst (-1), 1) := by decide +kernel
theorem d_Mremove_37 : decode b_Mremove 37 = .ok (.ireturn, 1) := by decide +kernel
theorem d_Mremove_38 : decode b_Mremove 38 = .ok (.aload_n 0, 1) := by decide +kernel
theorem d_Mremove_39 : decode b_Mremove 39 = .ok (.iload_n 1, 1) := by decide +kernel
theorem d_Mremove_40 : decode b_Mremove 40 = .ok (.iload_n 3, 1) := by decide +kernel
theorem d_Mremove_41 : decode b_Mremove 41 = .ok (.ifCond .eq 7, 3) := by decide +kernel
theorem d_Mremove_44 : decode b_Mremove 44 = .ok (.iconst 3, 1) := by decide +kernel
theorem d_Mremove_45 : decode b_Mremove 45 = .ok (.goto 4, 3) := by decide +kernel
theorem d_Mremove_48 : decode b_Mremove 48 = .ok (.iconst 2, 1) := by decide +kernel
theorem d_Mremove_49 : decode b_Mremove 49 = .ok (.iload_n 2, 1) := by decide +kernel
theorem d_Mremove_50 : decode b_Mremove 50 = .ok (.iconst (-1), 1) := by decide +kernel
theorem d_Mremove_51 : decode b_Mremove 51 = .ok (.iconst (-1), 1) := by decide +kernel
theorem d_Mremove_52 : decode b_Mremove 52 = .ok (.invokevirtual 155, 3) := by decide +kernel
theorem d_Mremove_55 : decode b_Mremove 55 = .ok (.ireturn, 1) := by decide +kernel
theorem d_Mundo_0 : decode b_Mundo 0 = .ok (.aload_n 0, 1) := by decide +kernel
theorem d_Mundo_1 : decode b_Mundo 1 = .ok (.iconst 0, 1) := by decide +kernel
theorem d_Mundo_2 : decode b_Mundo 2 = .ok (.putfield 78, 3) := by decide +kernel
theorem d_Mundo_5 : decode b_Mundo 5 = .ok (.iload_n 1, 1) := by decide +kernel
theorem d_Mundo_6 : decode b_Mundo 6 = .ok (.invokestatic 152, 3) := by decide +kernel
theorem d_Mundo_9 : decode b_Mundo 9 = .ok (.ifCond .eq 63, 3) := by decide +kernel
theorem d_Mundo_12 : decode b_Mundo 12 = .ok (.iload_n 2, 1) := by decide +kernel
theorem d_Mundo_13 : decode b_Mundo 13 = .ok (.iconst 1, 1) := by decide +kernel
theorem d_Mundo_14 : decode b_Mundo 14 = .ok (.aload_n 0, 1) := by decide +kernel
theorem d_Mundo_15 : decode b_Mundo 15 = .ok (.getfield 81, 3) := by decide +kernel
theorem d_Mundo_18 : decode b_Mundo 18 = .ok (.invokestatic 148, 3) := by decide +kernel
theorem d_Mundo_21 : decode b_Mundo 21 = .ok (.ifCond .eq 51, 3) := by decide +kernel
theorem d_Mundo_24 : decode b_Mundo 24 = .ok (.aload_n 0, 1) := by decide +kernel
theorem d_Mundo_25 : decode b_Mundo 25 = .ok (.getfield 13, 3) := by decide +kernel
theorem d_Mundo_28 : decode b_Mundo 28 = .ok (.iload_n 2, 1) := by decide +kernel
theorem d_Mundo_29 : decode b_Mundo 29 = .ok (.iaload, 1) := by decide +kernel
theorem d_Mundo_30 : decode b_Mundo 30 = .ok (.iload_n 1, 1) := by decide +kernel
theorem d_Mundo_31 : decode b_Mundo 31 = .ok (.if_icmp .ne 41, 3) := by decide +kernel
theorem d_Mundo_34 : decode b_Mundo 34 = .ok (.aload_n 0, 1) := by decide +kernel
theorem d_Mundo_35 : decode b_Mundo 35 = .ok (.getfield 7, 3) := by decide +kernel
theorem d_Mundo_38 : decode b_Mundo 38 = .ok (.iload_n 2, 1) := by decide +kernel
theorem d_Mundo_39 : decode b_Mundo 39 = .ok (.iaload, 1) := by decide +kernel
theorem d_Mundo_40 : decode b_Mundo 40 = .ok (.ifCond .eq 32, 3) := by decide +kernel
theorem d_Mundo_43 : decode b_Mundo 43 = .ok (.aload_n 0, 1) := by decide +kernel
theorem d_Mundo_44 : decode b_Mundo 44 = .ok (.getfield 7, 3) := by decide +kernel
theorem d_Mundo_47 : decode b_Mundo 47 = .ok (.iload_n 2, 1) := by decide +kernel
theorem d_Mundo_48 : decode b_Mundo 48 = .ok (.iaload, 1) := by decide +kernel
theorem d_Mundo_49 : decode b_Mundo 49 = .ok (.iconst 4, 1) := by decide +kernel
theorem d_Mundo_50 : decode b_Mundo 50 = .ok (.if_icmp .eq 22, 3) := by decide +kernel
theorem d_Mundo_53 : decode b_Mundo 53 = .ok (.aload_n 0, 1) := by decide +kernel
theorem d_Mundo_54 : decode b_Mundo 54 = .ok (.iload_n 1, 1) := by decide +kernel
theorem d_Mundo_55 : decode b_Mundo 55 = .ok (.iload_n 2, 1) := by decide +kernel
theorem d_Mundo_56 : decode b_Mundo 56 = .ok (.invokevirtual 135, 3) := by decide +kernel
theorem d_Mundo_59 : decode b_Mundo 59 = .ok (.ifCond .ne 13, 3) := by decide +kernel
theorem d_Mundo_62 : decode b_Mundo 62 = .ok (.aload_n 0, 1) := by decide +kernel
theorem d_Mundo_63 : decode b_Mundo 63 = .ok (.getfield 81, 3) := by decide +kernel
theorem d_Mundo_66 : decode b_Mundo 66 = .ok (.sipush 300, 3) := by decide +kernel
theorem d_Mundo_69 : decode b_Mundo 69 = .ok (.if_icmp .ne 5, 3) := by decide +kernel
theorem d_Mundo_72 : decode b_Mundo 72 = .ok (.iconst (-1), 1) := by decide +kernel
theorem d_Mundo_73 : decode b_Mundo 73 = .ok (.ireturn, 1) := by decide +kernel
theorem d_Mundo_74 : decode b_Mundo 74 = .ok (.aload_n 0, 1) := by decide +kernel
theorem d_Mundo_75 : decode b_Mundo 75 = .ok (.iload_n 1, 1) := by decide +kernel
theorem d_Mundo_76 : decode b_Mundo 76 = .ok (.iconst 4, 1) := by decide +kernel
theorem d_Mundo_77 : decode b_Mundo 77 = .ok (.iload_n 2, 1) := by decide +kernel
theorem d_Mundo_78 : decode b_Mundo 78 = .ok (.iconst (-1), 1) := by decide +kernel
theorem d_Mundo_79 : decode b_Mundo 79 = .ok (.iconst (-1), 1) := by decide +kernel
theorem d_Mundo_80 : decode b_Mundo 80 = .ok (.invokevirtual 155, 3) := by decide +kernel
theorem d_Mundo_83 : decode b_Mundo 83 = .ok (.ireturn, 1) := by decide +kernel
theorem d_MisUndone_0 : decode b_MisUndone 0 = .ok (.iconst 1, 1) := by decide +kernel
theorem d_MisUndone_1 : decode b_MisUndone 1 = .ok (.istore_n 3, 1) := by decide +kernel
theorem d_MisUndone_2 : decode b_MisUndone 2 = .ok (.iload_n 3, 1) := by decide +kernel
theorem d_MisUndone_3 : decode b_MisUndone 3 = .ok (.aload_n 0, 1) := by decide +kernel
theorem d_MisUndone_4 : decode b_MisUndone 4 = .ok (.getfield 81, 3) := by decide +kernel
theorem d_MisUndone_7 : decode b_MisUndone 7 = .ok (.if_icmp .gt 40, 3) := by decide +kernel
theorem d_MisUndone_10 : decode b_MisUndone 10 = .ok (.aload_n 0, 1) := by decide +kernel
theorem d_MisUndone_11 : decode b_MisUndone 11 = .ok (.getfield 7, 3) := by decide +kernel
theorem d_MisUndone_14 : decode b_MisUndone 14 = .ok (.iload_n 3, 1) := by decide +kernel
theorem d_MisUndone_15 : decode b_MisUndone 15 = .ok (.iaload, 1) := by decide +kernel
theorem d_MisUndone_16 : decode b_MisUndone 16 = .ok (.iconst 4, 1) := by decide +kernel
theorem d_MisUndone_17 : decode b_MisUndone 17 = .ok (.if_icmp .ne 24, 3) := by decide +kernel
theorem d_MisUndone_20 : decode b_MisUndone 20 = .ok (.aload_n 0, 1) := by decide +kernel
theorem d_MisUndone_21 : decode b_MisUndone 21 = .ok (.getfield 19, 3) := by decide +kernel
theorem d_MisUndone_24 : decode b_MisUndone 24 = .ok (.iload_n 3, 1) := by decide +kernel
theorem d_MisUndone_25 : decode b_MisUndone 25 = .ok (.iaload, 1) := by decide +kernel
theorem d_MisUndone_26 : decode b_MisUndone 26 = .ok (.iload_n 2, 1) := by decide +kernel
theorem d_MisUndone_27 : decode b_MisUndone 27 = .ok (.if_icmp .ne 14, 3) := by decide +kernel
theorem d_MisUndone_30 : decode b_MisUndone 30 = .ok (.aload_n 0, 1) := by decide +kernel
theorem d_MisUndone_31 : decode b_MisUndone 31 = .ok (.iload_n 1, 1) := by decide +kernel
theorem d_MisUndone_32 : decode b_MisUndone 32 = .ok (.iload_n 3, 1) := by decide +kernel
theorem d_MisUndone_33 : decode b_MisUndone 33 = .ok (.invokevirtual 84, 3) := by decide +kernel
theorem d_MisUndone_36 : decode b_MisUndone 36 = .ok (.ifCond .eq 5, 3) := by decide +kernel
theorem d_MisUndone_39 : decode b_MisUndone 39 = .ok (.iconst 1, 1) := by decide +kernel
theorem d_MisUndone_40 : decode b_MisUndone 40 = .ok (.ireturn, 1) := by decide +kernel
theorem d_MisUndone_41 : decode b_MisUndone 41 = .ok (.iinc 3 1, 3) := by decide +kernel
theorem d_MisUndone_44 : decode b_MisUndone 44 = .ok (.goto (-42), 3) := by decide +kernel
theorem d_MisUndone_47 : decode b_MisUndone 47 = .ok (.iconst 0, 1) := by decide +kernel
theorem d_MisUndone_48 : decode b_MisUndone 48 = .ok (.ireturn, 1) := by decide +kernel
theorem d_Msee_0 : decode b_Msee 0 = .ok (.aload_n 0, 1) := by decide +kernel
theorem d_Msee_1 : decode b_Msee 1 = .ok (.iconst 0, 1) := by decide +kernel
theorem d_Msee_2 : decode b_Msee 2 = .ok (.putfield 78, 3) := by decide +kernel
theorem d_Msee_5 : decode b_Msee 5 = .ok (.iload_n 1, 1) := by decide +kernel
theorem d_Msee_6 : decode b_Msee 6 = .ok (.invokestatic 152, 3) := by decide +kernel
theorem d_Msee_9 : decode b_Msee 9 = .ok (.ifCond .eq 24, 3) := by decide +kernel
theorem d_Msee_12 : decode b_Msee 12 = .ok (.iload_n 2, 1) := by decide +kernel
theorem d_Msee_13 : decode b_Msee 13 = .ok (.iconst 1, 1) := by decide +kernel
theorem d_Msee_14 : decode b_Msee 14 = .ok (.aload_n 0, 1) := by decide +kernel
theorem d_Msee_15 : decode b_Msee 15 = .ok (.getfield 81, 3) := by decide +kernel
theorem d_Msee_18 : decode b_Msee 18 = .ok (.invokestatic 148, 3) := by decide +kernel
theorem d_Msee_21 : decode b_Msee 21 = .ok (.ifCond .eq 12, 3) := by decide +kernel
theorem d_Msee_24 : decode b_Msee 24 = .ok (.aload_n 0, 1) := by decide +kernel
theorem d_Msee_25 : decode b_Msee 25 = .ok (.iload_n 1, 1) := by decide +kernel
theorem d_Msee_26 : decode b_Msee 26 = .ok (.iload_n 2, 1) := by decide +kernel
theorem d_Msee_27 : decode b_Msee 27 = .ok (.invokevirtual 84, 3) := by decide +kernel
theorem d_Msee_30 : decode b_Msee 30 = .ok (.ifCond .eq 5, 3) := by decide +kernel
theorem d_Msee_33 : decode b_Msee 33 = .ok (.iconst (-1), 1) := by decide +kernel
theorem d_Msee_34 : decode b_Msee 34 = .ok (.ireturn, 1) := by decide +kernel
theorem d_Msee_35 : decode b_Msee 35 = .ok (.aload_n 0, 1) := by decide +kernel
theorem d_Msee_36 : decode b_Msee 36 = .ok (.iload_n 1, 1) := by decide +kernel
theorem d_Msee_37 : decode b_Msee 37 = .ok (.iload_n 2, 1) := by decide +kernel
theorem d_Msee_38 : decode b_Msee 38 = .ok (.invokevirtual 144, 3) := by decide +kernel
theorem d_Msee_41 : decode b_Msee 41 = .ok (.aload_n 0, 1) := by decide +kernel
theorem d_Msee_42 : decode b_Msee 42 = .ok (.getfield 39, 3) := by decide +kernel
theorem d_Msee_45 : decode b_Msee 45 = .ok (.iload_n 1, 1) := by decide +kernel
theorem d_Msee_46 : decode b_Msee 46 = .ok (.iaload, 1) := by decide +kernel
theorem d_Msee_47 : decode b_Msee 47 = .ok (.ireturn, 1) := by decide +kernel
theorem d_Mmeet_0 : decode b_Mmeet 0 = .ok (.aload_n 0, 1) := by decide +kernel
theorem d_Mmeet_1 : decode b_Mmeet 1 = .ok (.iconst 0, 1) := by decide +kernel
theorem d_Mmeet_2 : decode b_Mmeet 2 = .ok (.putfield 78, 3) := by decide +kernel
theorem d_Mmeet_5 : decode b_Mmeet 5 = .ok (.iload_n 1, 1) := by decide +kernel
theorem d_Mmeet_6 : decode b_Mmeet 6 = .ok (.invokestatic 152, 3) := by decide +kernel
theorem d_Mmeet_9 : decode b_Mmeet 9 = .ok (.ifCond .eq 15, 3) := by decide +kernel
theorem d_Mmeet_12 : decode b_Mmeet 12 = .ok (.iload_n 2, 1) := by decide +kernel
theorem d_Mmeet_13 : decode b_Mmeet 13 = .ok (.invokestatic 152, 3) := by decide +kernel
theorem d_Mmeet_16 : decode b_Mmeet 16 = .ok (.ifCond .eq 8, 3) := by decide +kernel
theorem d_Mmeet_19 : decode b_Mmeet 19 = .ok (.iload_n 1, 1) := by decide +kernel
theorem d_Mmeet_20 : decode b_Mmeet 20 = .ok (.iload_n 2, 1) := by decide +kernel
theorem d_Mmeet_21 : decode b_Mmeet 21 = .ok (.if_icmp .ne 5, 3) := by decide +kernel
theorem d_Mmeet_24 : decode b_Mmeet 24 = .ok (.iconst (-1), 1) := by decide +kernel
theorem d_Mmeet_25 : decode b_Mmeet 25 = .ok (.ireturn, 1) := by decide +kernel
theorem d_Mmeet_26 : decode b_Mmeet 26 = .ok (.aload_n 0, 1) := by decide +kernel
theorem d_Mmeet_27 : decode b_Mmeet 27 = .ok (.iload_n 2, 1) := by decide +kernel
theorem d_Mmeet_28 : decode b_Mmeet 28 = .ok (.invokevirtual 132, 3) := by decide +kernel
theorem d_Mmeet_31 : decode b_Mmeet 31 = .ok (.aload_n 0, 1) := by decide +kernel
theorem d_Mmeet_32 : decode b_Mmeet 32 = .ok (.aload_n 0, 1) := by decide +kernel
theorem d_Mmeet_33 : decode b_Mmeet 33 = .ok (.getfield 88, 3) := by decide +kernel
theorem d_Mmeet_36 : decode b_Mmeet 36 = .ok (.putfield 159, 3) := by decide +kernel
theorem d_Mmeet_39 : decode b_Mmeet 39 = .ok (.iconst 0, 1) := by decide +kernel
theorem d_Mmeet_40 : decode b_Mmeet 40 = .ok (.istore_n 3, 1) := by decide +kernel
theorem d_Mmeet_41 : decode b_Mmeet 41 = .ok (.iload_n 3, 1) := by decide +kernel
theorem d_Mmeet_42 : decode b_Mmeet 42 = .ok (.aload_n 0, 1) := by decide +kernel
theorem d_Mmeet_43 : decode b_Mmeet 43 = .ok (.getfield 88, 3) := by decide +kernel
theorem d_Mmeet_46 : decode b_Mmeet 46 = .ok (.if_icmp .ge 21, 3) := by decide +kernel
theorem d_Mmeet_49 : decode b_Mmeet 49 = .ok (.aload_n 0, 1) := by decide +kernel
theorem d_Mmeet_50 : decode b_Mmeet 50 = .ok (.getfield 66, 3) := by decide +kernel
theorem d_Mmeet_53 : decode b_Mmeet 53 = .ok (.iload_n 3, 1) := by decide +kernel
theorem d_Mmeet_54 : decode b_Mmeet 54 = .ok (.aload_n 0, 1) := by decide +kernel
theorem d_Mmeet_55 : decode b_Mmeet 55 = .ok (.getfield 63, 3) := by decide +kernel
theorem d_Mmeet_58 : decode b_Mmeet 58 = .ok (.iload_n 3, 1) := by decide +kernel
theorem d_Mmeet_59 : decode b_Mmeet 59 = .ok (.iaload, 1) := by decide +kernel
theorem d_Mmeet_60 : decode b_Mmeet 60 = .ok (.iastore, 1) := by decide +kernel
theorem d_Mmeet_61 : decode b_Mmeet 61 = .ok (.iinc 3 1, 3) := by decide +kernel
theorem d_Mmeet_64 : decode b_Mmeet 64 = .ok (.goto (-23), 3) := by decide +kernel
theorem d_Mmeet_67 : decode b_Mmeet 67 = .ok (.iconst 0, 1) := by decide +kernel
theorem d_Mmeet_68 : decode b_Mmeet 68 = .ok (.istore_n 3, 1) := by decide +kernel
theorem d_Mmeet_69 : decode b_Mmeet 69 = .ok (.iconst 0, 1) := by decide +kernel
theorem d_Mmeet_70 : decode b_Mmeet 70 = .ok (.istore 4, 2) := by decide +kernel
theorem d_Mmeet_72 : decode b_Mmeet 72 = .ok (.iload 4, 2) := by decide +kernel
theorem d_Mmeet_74 : decode b_Mmeet 74 = .ok (.aload_n 0, 1) := by decide +kernel
theorem d_Mmeet_75 : decode b_Mmeet 75 = .ok (.getfield 159, 3) := by decide +kernel
theorem d_Mmeet_78 : decode b_Mmeet 78 = .ok (.if_icmp .ge 42, 3) := by decide +kernel
theorem d_Mmeet_81 : decode b_Mmeet 81 = .ok (.aload_n 0, 1) := by decide +kernel
theorem d_Mmeet_82 : decode b_Mmeet 82 = .ok (.iload_n 1, 1) := by decide +kernel
theorem d_Mmeet_83 : decode b_Mmeet 83 = .ok (.aload_n 0, 1) := by decide +kernel
theorem d_Mmeet_84 : decode b_Mmeet 84 = .ok (.getfield 66, 3) := by decide +kernel
theorem d_Mmeet_87 : decode b_Mmeet 87 = .ok (.iload 4, 2) := by decide +kernel
theorem d_Mmeet_89 : decode b_Mmeet 89 = .ok (.iaload, 1) := by decide +kernel
theorem d_Mmeet_90 : decode b_Mmeet 90 = .ok (.invokevirtual 84, 3) := by decide +kernel
theorem d_Mmeet_93 : decode b_Mmeet 93 = .ok (.ifCond .eq 6, 3) := by decide +kernel
theorem d_Mmeet_96 : decode b_Mmeet 96 = .ok (.goto 18, 3) := by decide +kernel
theorem d_Mmeet_99 : decode b_Mmeet 99 = .ok (.aload_n 0, 1) := by decide +kernel
theorem d_Mmeet_100 : decode b_Mmeet 100 = .ok (.iload_n 1, 1) := by decide +kernel
theorem d_Mmeet_101 : decode b_Mmeet 101 = .ok (.aload_n 0, 1) := by decide +kernel
theorem d_Mmeet_102 : decode b_Mmeet 102 = .ok (.getfield 66, 3) := by decide +kernel
theorem d_Mmeet_105 : decode b_Mmeet 105 = .ok (.iload 4, 2) := by decide +kernel
theorem d_Mmeet_107 : decode b_Mmeet 107 = .ok (.iaload, 1) := by decide +kernel
theorem d_Mmeet_108 : decode b_Mmeet 108 = .ok (.invokevirtual 144, 3) := by decide +kernel
theorem d_Mmeet_111 : decode b_Mmeet 111 = .ok (.iinc 3 1, 3) := by decide +kernel
theorem d_Mmeet_114 : decode b_Mmeet 114 = .ok (.iinc 4 1, 3) := by decide +kernel
theorem d_Mmeet_117 : decode b_Mmeet 117 = .ok (.goto (-45), 3) := by decide +kernel
theorem d_Mmeet_120 : decode b_Mmeet 120 = .ok (.aload_n 0, 1) := by decide +kernel
theorem d_Mmeet_121 : decode b_Mmeet 121 = .ok (.iconst (-1), 1) := by decide +kernel
theorem d_Mmeet_122 : decode b_Mmeet 122 = .ok (.putfield 42, 3) := by decide +kernel
theorem d_Mmeet_125 : decode b_Mmeet 125 = .ok (.iload_n 3, 1) := by decide +kernel
theorem d_Mmeet_126 : decode b_Mmeet 126 = .ok (.ireturn, 1) := by decide +kernel
theorem d_MfindOrder_0 : decode b_MfindOrder 0 = .ok (.aload_n 0, 1) := by decide +kernel
theorem d_MfindOrder_1 : decode b_MfindOrder 1 = .ok (.iconst 0, 1) := by decide +kernel
theorem d_MfindOrder_2 : decode b_MfindOrder 2 = .ok (.putfield 88, 3) := by decide +kernel
theorem d_MfindOrder_5 : decode b_MfindOrder 5 = .ok (.iconst 1, 1) := by decide +kernel
theorem d_MfindOrder_6 : decode b_MfindOrder 6 = .ok (.istore_n 2, 1) := by decide +kernel
theorem d_MfindOrder_7 : decode b_MfindOrder 7 = .ok (.iload_n 2, 1) := by decide +kernel
theorem d_MfindOrder_8 : decode b_MfindOrder 8 = .ok (.aload_n 0, 1) := by decide +kernel
theorem d_MfindOrder_9 : decode b_MfindOrder 9 = .ok (.getfield 81, 3) := by decide +kernel
theorem d_MfindOrder_12 : decode b_MfindOrder 12 = .ok (.if_icmp .gt 83, 3) := by decide +kernel
theorem d_MfindOrder_15 : decode b_MfindOrder 15 = .ok (.aload_n 0, 1) := by decide +kernel
theorem d_MfindOrder_16 : decode b_MfindOrder 16 = .ok (.iload_n 1, 1) := by decide +kernel
theorem d_MfindOrder_17 : decode b_MfindOrder 17 = .ok (.iload_n 2, 1) := by decide +kernel
theorem d_MfindOrder_18 : decode b_MfindOrder 18 = .ok (.invokevirtual 84, 3) := by decide +kernel
theorem d_MfindOrder_21 : decode b_MfindOrder 21 = .ok (.ifCond .ne 6, 3) := by decide +kernel
theorem d_MfindOrder_24 : decode b_MfindOrder 24 = .ok (.goto 65, 3) := by decide +kernel
theorem d_MfindOrder_27 : decode b_MfindOrder 27 = .ok (.aload_n 0, 1) := by decide +kernel
theorem d_MfindOrder_28 : decode b_MfindOrder 28 = .ok (.getfield 88, 3) := by decide +kernel
theorem d_MfindOrder_31 : decode b_MfindOrder 31 = .ok (.istore_n 3, 1) := by decide +kernel
theorem d_MfindOrder_32 : decode b_MfindOrder 32 = .ok (.iload_n 3, 1) := by decide +kernel
theorem d_MfindOrder_33 : decode b_MfindOrder 33 = .ok (.ifCond .le 39, 3) := by decide +kernel
theorem d_MfindOrder_36 : decode b_MfindOrder 36 = .ok (.aload_n 0, 1) := by decide +kernel
theorem d_MfindOrder_37 : decode b_MfindOrder 37 = .ok (.iload_n 2, 1) := by decide +kernel
theorem d_MfindOrder_38 : decode b_MfindOrder 38 = .ok (.aload_n 0, 1) := by decide +kernel
theorem d_MfindOrder_39 : decode b_MfindOrder 39 = .ok (.getfield 63, 3) := by decide +kernel
theorem d_MfindOrder_42 : decode b_MfindOrder 42 = .ok (.iload_n 3, 1) := by decide +kernel
theorem d_MfindOrder_43 : decode b_MfindOrder 43 = .ok (.iconst 1, 1) := by decide +kernel
theorem d_MfindOrder_44 : decode b_MfindOrder 44 = .ok (.isub, 1) := by decide +kernel
theorem d_MfindOrder_45 : decode b_MfindOrder 45 = .ok (.iaload, 1) := by decide +kernel
theorem d_MfindOrder_46 : decode b_MfindOrder 46 = .ok (.invokevirtual 91, 3) := by decide +kernel
theorem d_MfindOrder_49 : decode b_MfindOrder 49 = .ok (.ifCond .eq 23, 3) := by decide +kernel
theorem d_MfindOrder_52 : decode b_MfindOrder 52 = .ok (.aload_n 0, 1) := by decide +kernel
theorem d_MfindOrder_53 : decode b_MfindOrder 53 = .ok (.getfield 63, 3) := by decide +kernel
theorem d_MfindOrder_56 : decode b_MfindOrder 56 = .ok (.iload_n 3, 1) := by decide +kernel
theorem d_MfindOrder_57 : decode b_MfindOrder 57 = .ok (.aload_n 0, 1) := by decide +kernel
theorem d_MfindOrder_58 : decode b_MfindOrder 58 = .ok (.getfield 63, 3) := by decide +kernel
theorem d_MfindOrder_61 : decode b_MfindOrder 61 = .ok (.iload_n 3, 1) := by decide +kernel
theorem d_MfindOrder_62 : decode b_MfindOrder 62 = .ok (.iconst 1, 1) := by decide +kernel
theorem d_MfindOrder_63 : decode b_MfindOrder 63 = .ok (.isub, 1) := by decide +kernel
theorem d_MfindOrder_64 : decode b_MfindOrder 64 = .ok (.iaload, 1) := by decide +kernel
theorem d_MfindOrder_65 : decode b_MfindOrder 65 = .ok (.iastore, 1) := by decide +kernel
theorem d_MfindOrder_66 : decode b_MfindOrder 66 = .ok (.iinc 3 (-1), 3) := by decide +kernel
theorem d_MfindOrder_69 : decode b_MfindOrder 69 = .ok (.goto (-37), 3) := by decide +kernel
theorem d_MfindOrder_72 : decode b_MfindOrder 72 = .ok (.aload_n 0, 1) := by decide +kernel
theorem d_MfindOrder_73 : decode b_MfindOrder 73 = .ok (.getfield 63, 3) := by decide +kernel
theorem d_MfindOrder_76 : decode b_MfindOrder 76 = .ok (.iload_n 3, 1) := by decide +kernel
theorem d_MfindOrder_77 : decode b_MfindOrder 77 = .ok (.iload_n 2, 1) := by decide +kernel
theorem d_MfindOrder_78 : decode b_MfindOrder 78 = .ok (.iastore, 1) := by decide +kernel
theorem d_MfindOrder_79 : decode b_MfindOrder 79 = .ok (.aload_n 0, 1) := by decide +kernel
theorem d_MfindOrder_80 : decode b_MfindOrder 80 = .ok (.dup, 1) := by decide +kernel
theorem d_MfindOrder_81 : decode b_MfindOrder 81 = .ok (.getfield 88, 3) := by decide +kernel
theorem d_MfindOrder_84 : decode b_MfindOrder 84 = .ok (.iconst 1, 1) := by decide +kernel
theorem d_MfindOrder_85 : decode b_MfindOrder 85 = .ok (.iadd, 1) := by decide +kernel
theorem d_MfindOrder_86 : decode b_MfindOrder 86 = .ok (.putfield 88, 3) := by decide +kernel
theorem d_MfindOrder_89 : decode b_MfindOrder 89 = .ok (.iinc 2 1, 3) := by decide +kernel
theorem d_MfindOrder_92 : decode b_MfindOrder 92 = .ok (.goto (-85), 3) := by decide +kernel
theorem d_MfindOrder_95 : decode b_MfindOrder 95 = .ok (.return_, 1) := by decide +kernel
theorem d_Mcost_0 : decode b_Mcost 0 = .ok (.aload_n 0, 1) := by decide +kernel
theorem d_Mcost_1 : decode b_Mcost 1 = .ok (.iconst 0, 1) := by decide +kernel
theorem d_Mcost_2 : decode b_Mcost 2 = .ok (.putfield 78, 3) := by decide +kernel
theorem d_Mcost_5 : decode b_Mcost 5 = .ok (.iload_n 1, 1) := by decide +kernel
theorem d_Mcost_6 : decode b_Mcost 6 = .ok (.invokestatic 152, 3) := by decide +kernel
theorem d_Mcost_9 : decode b_Mcost 9 = .ok (.ifCond .eq 12, 3) := by decide +kernel
theorem d_Mcost_12 : decode b_Mcost 12 = .ok (.aload_n 0, 1) := by decide +kernel
theorem d_Mcost_13 : decode b_Mcost 13 = .ok (.getfield 39, 3) := by decide +kernel
theorem d_Mcost_16 : decode b_Mcost 16 = .ok (.iload_n 1, 1) := by decide +kernel
theorem d_Mcost_17 : decode b_Mcost 17 = .ok (.iaload, 1) := by decide +kernel
theorem d_Mcost_18 : decode b_Mcost 18 = .ok (.goto 4, 3) := by decide +kernel
theorem d_Mcost_21 : decode b_Mcost 21 = .ok (.iconst (-1), 1) := by decide +kernel
theorem d_Mcost_22 : decode b_Mcost 22 = .ok (.ireturn, 1) := by decide +kernel
theorem d_Mobject_0 : decode b_Mobject 0 = .ok (.aload_n 0, 1) := by decide +kernel
theorem d_Mobject_1 : decode b_Mobject 1 = .ok (.iconst 0, 1) := by decide +kernel
theorem d_Mobject_2 : decode b_Mobject 2 = .ok (.putfield 78, 3) := by decide +kernel
theorem d_Mobject_5 : decode b_Mobject 5 = .ok (.aload_n 0, 1) := by decide +kernel
theorem d_Mobject_6 : decode b_Mobject 6 = .ok (.iload_n 1, 1) := by decide +kernel
theorem d_Mobject_7 : decode b_Mobject 7 = .ok (.iload_n 2, 1) := by decide +kernel
theorem d_Mobject_8 : decode b_Mobject 8 = .ok (.invokevirtual 165, 3) := by decide +kernel
theorem d_Mobject_11 : decode b_Mobject 11 = .ok (.ifCond .ne 5, 3) := by decide +kernel
theorem d_Mobject_14 : decode b_Mobject 14 = .ok (.iconst (-1), 1) := by decide +kernel
theorem d_Mobject_15 : decode b_Mobject 15 = .ok (.ireturn, 1) := by decide +kernel
theorem d_Mobject_16 : decode b_Mobject 16 = .ok (.iload_n 3, 1) := by decide +kernel
theorem d_Mobject_17 : decode b_Mobject 17 = .ok (.tableswitch 99 0 5 #[39, 45, 51, 58, 72, 92], 39) := by decide +kernel
theorem d_Mobject_56 : decode b_Mobject 56 = .ok (.aload_n 0, 1) := by decide +kernel
theorem d_Mobject_57 : decode b_Mobject 57 = .ok (.iload_n 2, 1) := by decide +kernel
theorem d_Mobject_58 : decode b_Mobject 58 = .ok (.invokevirtual 168, 3) := by decide +kernel
theorem d_Mobject_61 : decode b_Mobject 61 = .ok (.ireturn, 1) := by decide +kernel
theorem d_Mobject_62 : decode b_Mobject 62 = .ok (.aload_n 0, 1) := by decide +kernel
theorem d_Mobject_63 : decode b_Mobject 63 = .ok (.iload_n 2, 1) := by decide +kernel
theorem d_Mobject_64 : decode b_Mobject 64 = .ok (.invokevirtual 94, 3) := by decide +kernel
theorem d_Mobject_67 : decode b_Mobject 67 = .ok (.ireturn, 1) := by decide +kernel
theorem d_Mobject_68 : decode b_Mobject 68 = .ok (.aload_n 0, 1) := by decide +kernel
theorem d_Mobject_69 : decode b_Mobject 69 = .ok (.getfield 54, 3) := by decide +kernel
theorem d_Mobject_72 : decode b_Mobject 72 = .ok (.iload_n 2, 1) := by decide +kernel
theorem d_Mobject_73 : decode b_Mobject 73 = .ok (.iaload, 1) := by decide +kernel
theorem d_Mobject_74 : decode b_Mobject 74 = .ok (.ireturn, 1) := by decide +kernel
theorem d_Mobject_75 : decode b_Mobject 75 = .ok (.aload_n 0, 1) := by decide +kernel
theorem d_Mobject_76 : decode b_Mobject 76 = .ok (.iload_n 2, 1) := by decide +kernel
theorem d_Mobject_77 : decode b_Mobject 77 = .ok (.invokevirtual 101, 3) := by decide +kernel
theorem d_Mobject_80 : decode b_Mobject 80 = .ok (.ifCond .ne 7, 3) := by decide +kernel
theorem d_Mobject_83 : decode b_Mobject 83 = .ok (.iconst 0, 1) := by decide +kernel
theorem d_Mobject_84 : decode b_Mobject 84 = .ok (.goto 4, 3) := by decide +kernel
theorem d_Mobject_87 : decode b_Mobject 87 = .ok (.iconst 1, 1) := by decide +kernel
theorem d_Mobject_88 : decode b_Mobject 88 = .ok (.ireturn, 1) := by decide +kernel
theorem d_Mobject_89 : decode b_Mobject 89 = .ok (.iload_n 2, 1) := by decide +kernel
theorem d_Mobject_90 : decode b_Mobject 90 = .ok (.ifCond .ne 7, 3) := by decide +kernel
theorem d_Mobject_93 : decode b_Mobject 93 = .ok (.iconst 0, 1) := by decide +kernel
theorem d_Mobject_94 : decode b_Mobject 94 = .ok (.goto 14, 3) := by decide +kernel
theorem d_Mobject_97 : decode b_Mobject 97 = .ok (.aload_n 0, 1) := by decide +kernel
theorem d_Mobject_98 : decode b_Mobject 98 = .ok (.iload_n 2, 1) := by decide +kernel
theorem d_Mobject_99 : decode b_Mobject 99 = .ok (.aload_n 0, 1) := by decide +kernel
theorem d_Mobject_100 : decode b_Mobject 100 = .ok (.getfield 48, 3) := by decide +kernel
theorem d_Mobject_103 : decode b_Mobject 103 = .ok (.iload_n 2, 1) := by decide +kernel
theorem d_Mobject_104 : decode b_Mobject 104 = .ok (.iaload, 1) := by decide +kernel
theorem d_Mobject_105 : decode b_Mobject 105 = .ok (.invokevirtual 114, 3) := by decide +kernel
theorem d_Mobject_108 : decode b_Mobject 108 = .ok (.ireturn, 1) := by decide +kernel
theorem d_Mobject_109 : decode b_Mobject 109 = .ok (.aload_n 0, 1) := by decide +kernel
theorem d_Mobject_110 : decode b_Mobject 110 = .ok (.getfield 51, 3) := by decide +kernel
theorem d_Mobject_113 : decode b_Mobject 113 = .ok (.iload_n 2, 1) := by decide +kernel
theorem d_Mobject_114 : decode b_Mobject 114 = .ok (.iaload, 1) := by decide +kernel
theorem d_Mobject_115 : decode b_Mobject 115 = .ok (.ireturn, 1) := by decide +kernel
theorem d_Mobject_116 : decode b_Mobject 116 = .ok (.iconst (-1), 1) := by decide +kernel
theorem d_Mobject_117 : decode b_Mobject 117 = .ok (.ireturn, 1) := by decide +kernel
theorem d_MisIn_0 : decode b_MisIn 0 = .ok (.iload_n 1, 1) := by decide +kernel
theorem d_MisIn_1 : decode b_MisIn 1 = .ok (.invokestatic 152, 3) := by decide +kernel
theorem d_MisIn_4 : decode b_MisIn 4 = .ok (.ifCond .eq 17, 3) := by decide +kernel
theorem d_MisIn_7 : decode b_MisIn 7 = .ok (.iload_n 2, 1) := by decide +kernel
theorem d_MisIn_8 : decode b_MisIn 8 = .ok (.iconst 0, 1) := by decide +kernel
theorem d_MisIn_9 : decode b_MisIn 9 = .ok (.aload_n 0, 1) := by decide +kernel
theorem d_MisIn_10 : decode b_MisIn 10 = .ok (.getfield 28, 3) := by decide +kernel
theorem d_MisIn_13 : decode b_MisIn 13 = .ok (.iconst 1, 1) := by decide +kernel
theorem d_MisIn_14 : decode b_MisIn 14 = .ok (.isub, 1) := by decide +kernel
theorem d_MisIn_15 : decode b_MisIn 15 = .ok (.invokestatic 148, 3) := by decide +kernel
theorem d_MisIn_18 : decode b_MisIn 18 = .ok (.ifCond .ne 5, 3) := by decide +kernel
theorem d_MisIn_21 : decode b_MisIn 21 = .ok (.iconst 0, 1) := by decide +kernel
theorem d_MisIn_22 : decode b_MisIn 22 = .ok (.ireturn, 1) := by decide +kernel
theorem d_MisIn_23 : decode b_MisIn 23 = .ok (.aload_n 0, 1) := by decide +kernel
theorem d_MisIn_24 : decode b_MisIn 24 = .ok (.iload_n 1, 1) := by decide +kernel
theorem d_MisIn_25 : decode b_MisIn 25 = .ok (.invokevirtual 162, 3) := by decide +kernel
theorem d_MisIn_28 : decode b_MisIn 28 = .ok (.aload_n 0, 1) := by decide +kernel
theorem d_MisIn_29 : decode b_MisIn 29 = .ok (.getfield 45, 3) := by decide +kernel
theorem d_MisIn_32 : decode b_MisIn 32 = .ok (.iload_n 2, 1) := by decide +kernel
theorem d_MisIn_33 : decode b_MisIn 33 = .ok (.baload, 1) := by decide +kernel
theorem d_MisIn_34 : decode b_MisIn 34 = .ok (.ireturn, 1) := by decide +kernel
theorem d_Mbuild_0 : decode b_Mbuild 0 = .ok (.aload_n 0, 1) := by decide +kernel
theorem d_Mbuild_1 : decode b_Mbuild 1 = .ok (.getfield 42, 3) := by decide +kernel
theorem d_Mbuild_4 : decode b_Mbuild 4 = .ok (.iload_n 1, 1) := by decide +kernel
theorem d_Mbuild_5 : decode b_Mbuild 5 = .ok (.if_icmp .ne 4, 3) := by decide +kernel
theorem d_Mbuild_8 : decode b_Mbuild 8 = .ok (.return_, 1) := by decide +kernel
theorem d_Mbuild_9 : decode b_Mbuild 9 = .ok (.aload_n 0, 1) := by decide +kernel
theorem d_Mbuild_10 : decode b_Mbuild 10 = .ok (.iload_n 1, 1) := by decide +kernel
theorem d_Mbuild_11 : decode b_Mbuild 11 = .ok (.putfield 42, 3) := by decide +kernel
theorem d_Mbuild_14 : decode b_Mbuild 14 = .ok (.iconst 0, 1) := by decide +kernel
theorem d_Mbuild_15 : decode b_Mbuild 15 = .ok (.istore_n 2, 1) := by decide +kernel
theorem d_Mbuild_16 : decode b_Mbuild 16 = .ok (.iload_n 2, 1) := by decide +kernel
theorem d_Mbuild_17 : decode b_Mbuild 17 = .ok (.bipush 40, 2) := by decide +kernel
theorem d_Mbuild_19 : decode b_Mbuild 19 = .ok (.if_icmp .ge 38, 3) := by decide +kernel
theorem d_Mbuild_22 : decode b_Mbuild 22 = .ok (.aload_n 0, 1) := by decide +kernel
theorem d_Mbuild_23 : decode b_Mbuild 23 = .ok (.getfield 45, 3) := by decide +kernel
theorem d_Mbuild_26 : decode b_Mbuild 26 = .ok (.iload_n 2, 1) := by decide +kernel
theorem d_Mbuild_27 : decode b_Mbuild 27 = .ok (.iload_n 2, 1) := by decide +kernel
theorem d_Mbuild_28 : decode b_Mbuild 28 = .ok (.ifCond .ne 7, 3) := by decide +kernel
theorem d_Mbuild_31 : decode b_Mbuild 31 = .ok (.iconst 1, 1) := by decide +kernel
theorem d_Mbuild_32 : decode b_Mbuild 32 = .ok (.goto 4, 3) := by decide +kernel
theorem d_Mbuild_35 : decode b_Mbuild 35 = .ok (.iconst 0, 1) := by decide +kernel
theorem d_Mbuild_36 : decode b_Mbuild 36 = .ok (.bastore, 1) := by decide +kernel
theorem d_Mbuild_37 : decode b_Mbuild 37 = .ok (.aload_n 0, 1) := by decide +kernel
theorem d_Mbuild_38 : decode b_Mbuild 38 = .ok (.getfield 48, 3) := by decide +kernel
theorem d_Mbuild_41 : decode b_Mbuild 41 = .ok (.iload_n 2, 1) := by decide +kernel
theorem d_Mbuild_42 : decode b_Mbuild 42 = .ok (.iconst (-1), 1) := by decide +kernel
theorem d_Mbuild_43 : decode b_Mbuild 43 = .ok (.iastore, 1) := by decide +kernel
theorem d_Mbuild_44 : decode b_Mbuild 44 = .ok (.aload_n 0, 1) := by decide +kernel
theorem d_Mbuild_45 : decode b_Mbuild 45 = .ok (.getfield 51, 3) := by decide +kernel
theorem d_Mbuild_48 : decode b_Mbuild 48 = .ok (.iload_n 2, 1) := by decide +kernel
theorem d_Mbuild_49 : decode b_Mbuild 49 = .ok (.iconst (-1), 1) := by decide +kernel
theorem d_Mbuild_50 : decode b_Mbuild 50 = .ok (.iastore, 1) := by decide +kernel
theorem d_Mbuild_51 : decode b_Mbuild 51 = .ok (.iinc 2 1, 3) := by decide +kernel
theorem d_Mbuild_54 : decode b_Mbuild 54 = .ok (.goto (-38), 3) := by decide +kernel
theorem d_Mbuild_57 : decode b_Mbuild 57 = .ok (.iconst 0, 1) := by decide +kernel
theorem d_Mbuild_58 : decode b_Mbuild 58 = .ok (.istore_n 2, 1) := by decide +kernel
theorem d_Mbuild_59 : decode b_Mbuild 59 = .ok (.iload_n 2, 1) := by decide +kernel
theorem d_Mbuild_60 : decode b_Mbuild 60 = .ok (.bipush 40, 2) := by decide +kernel
theorem d_Mbuild_62 : decode b_Mbuild 62 = .ok (.if_icmp .gt 16, 3) := by decide +kernel
theorem d_Mbuild_65 : decode b_Mbuild 65 = .ok (.aload_n 0, 1) := by decide +kernel
theorem d_Mbuild_66 : decode b_Mbuild 66 = .ok (.getfield 54, 3) := by decide +kernel
theorem d_Mbuild_69 : decode b_Mbuild 69 = .ok (.iload_n 2, 1) := by decide +kernel
theorem d_Mbuild_70 : decode b_Mbuild 70 = .ok (.iconst 0, 1) := by decide +kernel
theorem d_Mbuild_71 : decode b_Mbuild 71 = .ok (.iastore, 1) := by decide +kernel
theorem d_Mbuild_72 : decode b_Mbuild 72 = .ok (.iinc 2 1, 3) := by decide +kernel
theorem d_Mbuild_75 : decode b_Mbuild 75 = .ok (.goto (-16), 3) := by decide +kernel
theorem d_Mbuild_78 : decode b_Mbuild 78 = .ok (.iconst 1, 1) := by decide +kernel
theorem d_Mbuild_79 : decode b_Mbuild 79 = .ok (.istore_n 2, 1) := by decide +kernel
theorem d_Mbuild_80 : decode b_Mbuild 80 = .ok (.iload_n 2, 1) := by decide +kernel
theorem d_Mbuild_81 : decode b_Mbuild 81 = .ok (.aload_n 0, 1) := by decide +kernel
theorem d_Mbuild_82 : decode b_Mbuild 82 = .ok (.getfield 81, 3) := by decide +kernel
theorem d_Mbuild_85 : decode b_Mbuild 85 = .ok (.if_icmp .gt 16, 3) := by decide +kernel
theorem d_Mbuild_88 : decode b_Mbuild 88 = .ok (.aload_n 0, 1) := by decide +kernel
theorem d_Mbuild_89 : decode b_Mbuild 89 = .ok (.getfield 60, 3) := by decide +kernel
theorem d_Mbuild_92 : decode b_Mbuild 92 = .ok (.iload_n 2, 1) := by decide +kernel
theorem d_Mbuild_93 : decode b_Mbuild 93 = .ok (.iconst 0, 1) := by decide +kernel
theorem d_Mbuild_94 : decode b_Mbuild 94 = .ok (.iastore, 1) := by decide +kernel
theorem d_Mbuild_95 : decode b_Mbuild 95 = .ok (.iinc 2 1, 3) := by decide +kernel
theorem d_Mbuild_98 : decode b_Mbuild 98 = .ok (.goto (-18), 3) := by decide +kernel
theorem d_Mbuild_101 : decode b_Mbuild 101 = .ok (.aload_n 0, 1) := by decide +kernel
theorem d_Mbuild_102 : decode b_Mbuild 102 = .ok (.iload_n 1, 1) := by decide +kernel
theorem d_Mbuild_103 : decode b_Mbuild 103 = .ok (.invokevirtual 132, 3) := by decide +kernel
theorem d_Mbuild_106 : decode b_Mbuild 106 = .ok (.iconst 0, 1) := by decide +kernel
theorem d_Mbuild_107 : decode b_Mbuild 107 = .ok (.istore_n 2, 1) := by decide +kernel
theorem d_Mbuild_108 : decode b_Mbuild 108 = .ok (.iload_n 2, 1) := by decide +kernel
theorem d_Mbuild_109 : decode b_Mbuild 109 = .ok (.aload_n 0, 1) := by decide +kernel
theorem d_Mbuild_110 : decode b_Mbuild 110 = .ok (.getfield 88, 3) := by decide +kernel
theorem d_Mbuild_113 : decode b_Mbuild 113 = .ok (.if_icmp .ge 62, 3) := by decide +kernel
theorem d_Mbuild_116 : decode b_Mbuild 116 = .ok (.aload_n 0, 1) := by decide +kernel
theorem d_Mbuild_117 : decode b_Mbuild 117 = .ok (.getfield 63, 3) := by decide +kernel
theorem d_Mbuild_120 : decode b_Mbuild 120 = .ok (.iload_n 2, 1) := by decide +kernel
theorem d_Mbuild_121 : decode b_Mbuild 121 = .ok (.iaload, 1) := by decide +kernel
theorem d_Mbuild_122 : decode b_Mbuild 122 = .ok (.istore_n 3, 1) := by decide +kernel
theorem d_Mbuild_123 : decode b_Mbuild 123 = .ok (.aload_n 0, 1) := by decide +kernel
theorem d_Mbuild_124 : decode b_Mbuild 124 = .ok (.getfield 60, 3) := by decide +kernel
theorem d_Mbuild_127 : decode b_Mbuild 127 = .ok (.iload_n 3, 1) := by decide +kernel
theorem d_Mbuild_128 : decode b_Mbuild 128 = .ok (.aload_n 0, 1) := by decide +kernel
theorem d_Mbuild_129 : decode b_Mbuild 129 = .ok (.getfield 7, 3) := by decide +kernel
theorem d_Mbuild_132 : decode b_Mbuild 132 = .ok (.iload_n 3, 1) := by decide +kernel
theorem d_Mbuild_133 : decode b_Mbuild 133 = .ok (.iaload, 1) := by decide +kernel
theorem d_Mbuild_134 : decode b_Mbuild 134 = .ok (.iconst 4, 1) := by decide +kernel
theorem d_Mbuild_135 : decode b_Mbuild 135 = .ok (.if_icmp .ne 7, 3) := by decide +kernel
theorem d_Mbuild_138 : decode b_Mbuild 138 = .ok (.iconst 1, 1) := by decide +kernel
theorem d_Mbuild_139 : decode b_Mbuild 139 = .ok (.goto 29, 3) := by decide +kernel
theorem d_Mbuild_142 : decode b_Mbuild 142 = .ok (.aload_n 0, 1) := by decide +kernel
theorem d_Mbuild_143 : decode b_Mbuild 143 = .ok (.iload_n 1, 1) := by decide +kernel
theorem d_Mbuild_144 : decode b_Mbuild 144 = .ok (.iload_n 3, 1) := by decide +kernel
theorem d_Mbuild_145 : decode b_Mbuild 145 = .ok (.invokevirtual 135, 3) := by decide +kernel
theorem d_Mbuild_148 : decode b_Mbuild 148 = .ok (.ifCond .eq 7, 3) := by decide +kernel
theorem d_Mbuild_151 : decode b_Mbuild 151 = .ok (.iconst 3, 1) := by decide +kernel
theorem d_Mbuild_152 : decode b_Mbuild 152 = .ok (.goto 16, 3) := by decide +kernel
theorem d_Mbuild_155 : decode b_Mbuild 155 = .ok (.aload_n 0, 1) := by decide +kernel
theorem d_Mbuild_156 : decode b_Mbuild 156 = .ok (.iload_n 3, 1) := by decide +kernel
theorem d_Mbuild_157 : decode b_Mbuild 157 = .ok (.invokevirtual 138, 3) := by decide +kernel
theorem d_Mbuild_160 : decode b_Mbuild 160 = .ok (.ifCond .eq 7, 3) := by decide +kernel
theorem d_Mbuild_163 : decode b_Mbuild 163 = .ok (.iconst 1, 1) := by decide +kernel
theorem d_Mbuild_164 : decode b_Mbuild 164 = .ok (.goto 4, 3) := by decide +kernel
theorem d_Mbuild_167 : decode b_Mbuild 167 = .ok (.iconst 2, 1) := by decide +kernel
theorem d_Mbuild_168 : decode b_Mbuild 168 = .ok (.iastore, 1) := by decide +kernel
theorem d_Mbuild_169 : decode b_Mbuild 169 = .ok (.iinc 2 1, 3) := by decide +kernel
theorem d_Mbuild_172 : decode b_Mbuild 172 = .ok (.goto (-64), 3) := by decide +kernel
theorem d_Mbuild_175 : decode b_Mbuild 175 = .ok (.return_, 1) := by decide +kernel
theorem d_MdoRow_0 : decode b_MdoRow 0 = .ok (.aload_n 0, 1) := by decide +kernel
theorem d_MdoRow_1 : decode b_MdoRow 1 = .ok (.getfield 19, 3) := by decide +kernel
theorem d_MdoRow_4 : decode b_MdoRow 4 = .ok (.iload_n 1, 1) := by decide +kernel
theorem d_MdoRow_5 : decode b_MdoRow 5 = .ok (.iaload, 1) := by decide +kernel
theorem d_MdoRow_6 : decode b_MdoRow 6 = .ok (.istore_n 2, 1) := by decide +kernel
theorem d_MdoRow_7 : decode b_MdoRow 7 = .ok (.aload_n 0, 1) := by decide +kernel
theorem d_MdoRow_8 : decode b_MdoRow 8 = .ok (.getfield 7, 3) := by decide +kernel
theorem d_MdoRow_11 : decode b_MdoRow 11 = .ok (.iload_n 1, 1) := by decide +kernel
theorem d_MdoRow_12 : decode b_MdoRow 12 = .ok (.iaload, 1) := by decide +kernel
theorem d_MdoRow_13 : decode b_MdoRow 13 = .ok (.tableswitch 69 0 2 #[27, 57, 63], 27) := by decide +kernel
theorem d_MdoRow_40 : decode b_MdoRow 40 = .ok (.aload_n 0, 1) := by decide +kernel
theorem d_MdoRow_41 : decode b_MdoRow 41 = .ok (.getfield 45, 3) := by decide +kernel
theorem d_MdoRow_44 : decode b_MdoRow 44 = .ok (.iload_n 2, 1) := by decide +kernel
theorem d_MdoRow_45 : decode b_MdoRow 45 = .ok (.iconst 1, 1) := by decide +kernel
theorem d_MdoRow_46 : decode b_MdoRow 46 = .ok (.bastore, 1) := by decide +kernel
theorem d_MdoRow_47 : decode b_MdoRow 47 = .ok (.aload_n 0, 1) := by decide +kernel
theorem d_MdoRow_48 : decode b_MdoRow 48 = .ok (.getfield 51, 3) := by decide +kernel
theorem d_MdoRow_51 : decode b_MdoRow 51 = .ok (.iload_n 2, 1) := by decide +kernel
theorem d_MdoRow_52 : decode b_MdoRow 52 = .ok (.iconst 0, 1) := by decide +kernel
theorem d_MdoRow_53 : decode b_MdoRow 53 = .ok (.iastore, 1) := by decide +kernel
theorem d_MdoRow_54 : decode b_MdoRow 54 = .ok (.aload_n 0, 1) := by decide +kernel
theorem d_MdoRow_55 : decode b_MdoRow 55 = .ok (.iload_n 2, 1) := by decide +kernel
theorem d_MdoRow_56 : decode b_MdoRow 56 = .ok (.bipush 40, 2) := by decide +kernel
theorem d_MdoRow_58 : decode b_MdoRow 58 = .ok (.aload_n 0, 1) := by decide +kernel
theorem d_MdoRow_59 : decode b_MdoRow 59 = .ok (.getfield 54, 3) := by decide +kernel
theorem d_MdoRow_62 : decode b_MdoRow 62 = .ok (.bipush 40, 2) := by decide +kernel
theorem d_MdoRow_64 : decode b_MdoRow 64 = .ok (.iaload, 1) := by decide +kernel
theorem d_MdoRow_65 : decode b_MdoRow 65 = .ok (.invokevirtual 118, 3) := by decide +kernel
theorem d_MdoRow_68 : decode b_MdoRow 68 = .ok (.iconst 1, 1) := by decide +kernel
theorem d_MdoRow_69 : decode b_MdoRow 69 = .ok (.ireturn, 1) := by decide +kernel
theorem d_MdoRow_70 : decode b_MdoRow 70 = .ok (.aload_n 0, 1) := by decide +kernel
theorem d_MdoRow_71 : decode b_MdoRow 71 = .ok (.iload_n 1, 1) := by decide +kernel
theorem d_MdoRow_72 : decode b_MdoRow 72 = .ok (.invokevirtual 122, 3) := by decide +kernel
theorem d_MdoRow_75 : decode b_MdoRow 75 = .ok (.ireturn, 1) := by decide +kernel
theorem d_MdoRow_76 : decode b_MdoRow 76 = .ok (.aload_n 0, 1) := by decide +kernel
theorem d_MdoRow_77 : decode b_MdoRow 77 = .ok (.iload_n 2, 1) := by decide +kernel
theorem d_MdoRow_78 : decode b_MdoRow 78 = .ok (.invokevirtual 126, 3) := by decide +kernel
theorem d_MdoRow_81 : decode b_MdoRow 81 = .ok (.ireturn, 1) := by decide +kernel
theorem d_MdoRow_82 : decode b_MdoRow 82 = .ok (.aload_n 0, 1) := by decide +kernel
theorem d_MdoRow_83 : decode b_MdoRow 83 = .ok (.iload_n 2, 1) := by decide +kernel
theorem d_MdoRow_84 : decode b_MdoRow 84 = .ok (.invokevirtual 129, 3) := by decide +kernel
theorem d_MdoRow_87 : decode b_MdoRow 87 = .ok (.ireturn, 1) := by decide +kernel
theorem d_MputAt_0 : decode b_MputAt 0 = .ok (.aload_n 0, 1) := by decide +kernel
theorem d_MputAt_1 : decode b_MputAt 1 = .ok (.getfield 54, 3) := by decide +kernel
theorem d_MputAt_4 : decode b_MputAt 4 = .ok (.iload_n 2, 1) := by decide +kernel
theorem d_MputAt_5 : decode b_MputAt 5 = .ok (.iaload, 1) := by decide +kernel
theorem d_MputAt_6 : decode b_MputAt 6 = .ok (.istore 4, 2) := by decide +kernel
theorem d_MputAt_8 : decode b_MputAt 8 = .ok (.iload 4, 2) := by decide +kernel
theorem d_MputAt_10 : decode b_MputAt 10 = .ok (.iload_n 3, 1) := by decide +kernel
theorem d_MputAt_11 : decode b_MputAt 11 = .ok (.if_icmp .le 35, 3) := by decide +kernel
theorem d_MputAt_14 : decode b_MputAt 14 = .ok (.aload_n 0, 1) := by decide +kernel
theorem d_MputAt_15 : decode b_MputAt 15 = .ok (.getfield 57, 3) := by decide +kernel
theorem d_MputAt_18 : decode b_MputAt 18 = .ok (.bipush 40, 2) := by decide +kernel
theorem d_MputAt_20 : decode b_MputAt 20 = .ok (.iload_n 2, 1) := by decide +kernel
theorem d_MputAt_21 : decode b_MputAt 21 = .ok (.imul, 1) := by decide +kernel
theorem d_MputAt_22 : decode b_MputAt 22 = .ok (.iload 4, 2) := by decide +kernel
theorem d_MputAt_24 : decode b_MputAt 24 = .ok (.iadd, 1) := by decide +kernel
theorem d_MputAt_25 : decode b_MputAt 25 = .ok (.aload_n 0, 1) := by decide +kernel
theorem d_MputAt_26 : decode b_MputAt 26 = .ok (.getfield 57, 3) := by decide +kernel
theorem d_MputAt_29 : decode b_MputAt 29 = .ok (.bipush 40, 2) := by decide +kernel
theorem d_MputAt_31 : decode b_MputAt 31 = .ok (.iload_n 2, 1) := by decide +kernel
theorem d_MputAt_32 : decode b_MputAt 32 = .ok (.imul, 1) := by decide +kernel
theorem d_MputAt_33 : decode b_MputAt 33 = .ok (.iload 4, 2) := by decide +kernel
theorem d_MputAt_35 : decode b_MputAt 35 = .ok (.iadd, 1) := by decide +kernel
theorem d_MputAt_36 : decode b_MputAt 36 = .ok (.iconst 1, 1) := by decide +kernel
theorem d_MputAt_37 : decode b_MputAt 37 = .ok (.isub, 1) := by decide +kernel
theorem d_MputAt_38 : decode b_MputAt 38 = .ok (.iaload, 1) := by decide +kernel
theorem d_MputAt_39 : decode b_MputAt 39 = .ok (.iastore, 1) := by decide +kernel
theorem d_MputAt_40 : decode b_MputAt 40 = .ok (.iinc 4 (-1), 3) := by decide +kernel
theorem d_MputAt_43 : decode b_MputAt 43 = .ok (.goto (-35), 3) := by decide +kernel
theorem d_MputAt_46 : decode b_MputAt 46 = .ok (.aload_n 0, 1) := by decide +kernel
theorem d_MputAt_47 : decode b_MputAt 47 = .ok (.getfield 57, 3) := by decide +kernel
theorem d_MputAt_50 : decode b_MputAt 50 = .ok (.bipush 40, 2) := by decide +kernel
theorem d_MputAt_52 : decode b_MputAt 52 = .ok (.iload_n 2, 1) := by decide +kernel
theorem d_MputAt_53 : decode b_MputAt 53 = .ok (.imul, 1) := by decide +kernel
theorem d_MputAt_54 : decode b_MputAt 54 = .ok (.iload_n 3, 1) := by decide +kernel
theorem d_MputAt_55 : decode b_MputAt 55 = .ok (.iadd, 1) := by decide +kernel
theorem d_MputAt_56 : decode b_MputAt 56 = .ok (.iload_n 1, 1) := by decide +kernel
theorem d_MputAt_57 : decode b_MputAt 57 = .ok (.iastore, 1) := by decide +kernel
theorem d_MputAt_58 : decode b_MputAt 58 = .ok (.aload_n 0, 1) := by decide +kernel
theorem d_MputAt_59 : decode b_MputAt 59 = .ok (.getfield 54, 3) := by decide +kernel
theorem d_MputAt_62 : decode b_MputAt 62 = .ok (.iload_n 2, 1) := by decide +kernel
theorem d_MputAt_63 : decode b_MputAt 63 = .ok (.dup2, 1) := by decide +kernel
theorem d_MputAt_64 : decode b_MputAt 64 = .ok (.iaload, 1) := by decide +kernel
theorem d_MputAt_65 : decode b_MputAt 65 = .ok (.iconst 1, 1) := by decide +kernel
theorem d_MputAt_66 : decode b_MputAt 66 = .ok (.iadd, 1) := by decide +kernel
theorem d_MputAt_67 : decode b_MputAt 67 = .ok (.iastore, 1) := by decide +kernel
theorem d_MputAt_68 : decode b_MputAt 68 = .ok (.aload_n 0, 1) := by decide +kernel
theorem d_MputAt_69 : decode b_MputAt 69 = .ok (.getfield 48, 3) := by decide +kernel
theorem d_MputAt_72 : decode b_MputAt 72 = .ok (.iload_n 1, 1) := by decide +kernel
theorem d_MputAt_73 : decode b_MputAt 73 = .ok (.iload_n 2, 1) := by decide +kernel
theorem d_MputAt_74 : decode b_MputAt 74 = .ok (.iastore, 1) := by decide +kernel
theorem d_MputAt_75 : decode b_MputAt 75 = .ok (.return_, 1) := by decide +kernel
theorem d_MdoMove_0 : decode b_MdoMove 0 = .ok (.aload_n 0, 1) := by decide +kernel
theorem d_MdoMove_1 : decode b_MdoMove 1 = .ok (.getfield 19, 3) := by decide +kernel
theorem d_MdoMove_4 : decode b_MdoMove 4 = .ok (.iload_n 1, 1) := by decide +kernel
theorem d_MdoMove_5 : decode b_MdoMove 5 = .ok (.iaload, 1) := by decide +kernel
theorem d_MdoMove_6 : decode b_MdoMove 6 = .ok (.istore_n 2, 1) := by decide +kernel
theorem d_MdoMove_7 : decode b_MdoMove 7 = .ok (.aload_n 0, 1) := by decide +kernel
theorem d_MdoMove_8 : decode b_MdoMove 8 = .ok (.getfield 45, 3) := by decide +kernel
theorem d_MdoMove_11 : decode b_MdoMove 11 = .ok (.iload_n 2, 1) := by decide +kernel
theorem d_MdoMove_12 : decode b_MdoMove 12 = .ok (.baload, 1) := by decide +kernel
theorem d_MdoMove_13 : decode b_MdoMove 13 = .ok (.ifCond .eq 17, 3) := by decide +kernel
theorem d_MdoMove_16 : decode b_MdoMove 16 = .ok (.aload_n 0, 1) := by decide +kernel
theorem d_MdoMove_17 : decode b_MdoMove 17 = .ok (.iload_n 2, 1) := by decide +kernel
theorem d_MdoMove_18 : decode b_MdoMove 18 = .ok (.aload_n 0, 1) := by decide +kernel
theorem d_MdoMove_19 : decode b_MdoMove 19 = .ok (.getfield 22, 3) := by decide +kernel
theorem d_MdoMove_22 : decode b_MdoMove 22 = .ok (.iload_n 1, 1) := by decide +kernel
theorem d_MdoMove_23 : decode b_MdoMove 23 = .ok (.iaload, 1) := by decide +kernel
theorem d_MdoMove_24 : decode b_MdoMove 24 = .ok (.invokevirtual 107, 3) := by decide +kernel
theorem d_MdoMove_27 : decode b_MdoMove 27 = .ok (.ifCond .ne 5, 3) := by decide +kernel
theorem d_MdoMove_30 : decode b_MdoMove 30 = .ok (.iconst 0, 1) := by decide +kernel
theorem d_MdoMove_31 : decode b_MdoMove 31 = .ok (.ireturn, 1) := by decide +kernel
theorem d_MdoMove_32 : decode b_MdoMove 32 = .ok (.aload_n 0, 1) := by decide +kernel
theorem d_MdoMove_33 : decode b_MdoMove 33 = .ok (.iload_n 2, 1) := by decide +kernel
theorem d_MdoMove_34 : decode b_MdoMove 34 = .ok (.invokevirtual 110, 3) := by decide +kernel
theorem d_MdoMove_37 : decode b_MdoMove 37 = .ok (.aload_n 0, 1) := by decide +kernel
theorem d_MdoMove_38 : decode b_MdoMove 38 = .ok (.getfield 25, 3) := by decide +kernel
theorem d_MdoMove_41 : decode b_MdoMove 41 = .ok (.iload_n 1, 1) := by decide +kernel
theorem d_MdoMove_42 : decode b_MdoMove 42 = .ok (.iaload, 1) := by decide +kernel
theorem d_MdoMove_43 : decode b_MdoMove 43 = .ok (.iload_n 2, 1) := by decide +kernel
theorem d_MdoMove_44 : decode b_MdoMove 44 = .ok (.if_icmp .ne 7, 3) := by decide +kernel
theorem d_MdoMove_47 : decode b_MdoMove 47 = .ok (.iconst (-1), 1) := by decide +kernel
theorem d_MdoMove_48 : decode b_MdoMove 48 = .ok (.goto 19, 3) := by decide +kernel
theorem d_MdoMove_51 : decode b_MdoMove 51 = .ok (.aload_n 0, 1) := by decide +kernel
theorem d_MdoMove_52 : decode b_MdoMove 52 = .ok (.aload_n 0, 1) := by decide +kernel
theorem d_MdoMove_53 : decode b_MdoMove 53 = .ok (.getfield 25, 3) := by decide +kernel
theorem d_MdoMove_56 : decode b_MdoMove 56 = .ok (.iload_n 1, 1) := by decide +kernel
theorem d_MdoMove_57 : decode b_MdoMove 57 = .ok (.iaload, 1) := by decide +kernel
theorem d_MdoMove_58 : decode b_MdoMove 58 = .ok (.aload_n 0, 1) := by decide +kernel
theorem d_MdoMove_59 : decode b_MdoMove 59 = .ok (.getfield 22, 3) := by decide +kernel
theorem d_MdoMove_62 : decode b_MdoMove 62 = .ok (.iload_n 1, 1) := by decide +kernel
theorem d_MdoMove_63 : decode b_MdoMove 63 = .ok (.iaload, 1) := by decide +kernel
theorem d_MdoMove_64 : decode b_MdoMove 64 = .ok (.invokevirtual 114, 3) := by decide +kernel
theorem d_MdoMove_67 : decode b_MdoMove 67 = .ok (.istore_n 3, 1) := by decide +kernel
theorem d_MdoMove_68 : decode b_MdoMove 68 = .ok (.aload_n 0, 1) := by decide +kernel
theorem d_MdoMove_69 : decode b_MdoMove 69 = .ok (.iload_n 2, 1) := by decide +kernel
theorem d_MdoMove_70 : decode b_MdoMove 70 = .ok (.aload_n 0, 1) := by decide +kernel
theorem d_MdoMove_71 : decode b_MdoMove 71 = .ok (.getfield 22, 3) := by decide +kernel
theorem d_MdoMove_74 : decode b_MdoMove 74 = .ok (.iload_n 1, 1) := by decide +kernel
theorem d_MdoMove_75 : decode b_MdoMove 75 = .ok (.iaload, 1) := by decide +kernel
theorem d_MdoMove_76 : decode b_MdoMove 76 = .ok (.iload_n 3, 1) := by decide +kernel
theorem d_MdoMove_77 : decode b_MdoMove 77 = .ok (.iconst 1, 1) := by decide +kernel
theorem d_MdoMove_78 : decode b_MdoMove 78 = .ok (.iadd, 1) := by decide +kernel
theorem d_MdoMove_79 : decode b_MdoMove 79 = .ok (.invokevirtual 118, 3) := by decide +kernel
theorem d_MdoMove_82 : decode b_MdoMove 82 = .ok (.aload_n 0, 1) := by decide +kernel
theorem d_MdoMove_83 : decode b_MdoMove 83 = .ok (.getfield 51, 3) := by decide +kernel
theorem d_MdoMove_86 : decode b_MdoMove 86 = .ok (.iload_n 2, 1) := by decide +kernel
theorem d_MdoMove_87 : decode b_MdoMove 87 = .ok (.aload_n 0, 1) := by decide +kernel
theorem d_MdoMove_88 : decode b_MdoMove 88 = .ok (.getfield 22, 3) := by decide +kernel
theorem d_MdoMove_91 : decode b_MdoMove 91 = .ok (.iload_n 1, 1) := by decide +kernel
theorem d_MdoMove_92 : decode b_MdoMove 92 = .ok (.iaload, 1) := by decide +kernel
theorem d_MdoMove_93 : decode b_MdoMove 93 = .ok (.iastore, 1) := by decide +kernel
theorem d_MdoMove_94 : decode b_MdoMove 94 = .ok (.iconst 1, 1) := by decide +kernel
theorem d_MdoMove_95 : decode b_MdoMove 95 = .ok (.ireturn, 1) := by decide +kernel
theorem d_MmayGo_0 : decode b_MmayGo 0 = .ok (.aload_n 0, 1) := by decide +kernel
theorem d_MmayGo_1 : decode b_MmayGo 1 = .ok (.getfield 45, 3) := by decide +kernel
theorem d_MmayGo_4 : decode b_MmayGo 4 = .ok (.iload_n 2, 1) := by decide +kernel
theorem d_MmayGo_5 : decode b_MmayGo 5 = .ok (.baload, 1) := by decide +kernel
theorem d_MmayGo_6 : decode b_MmayGo 6 = .ok (.ifCond .eq 42, 3) := by decide +kernel
theorem d_MmayGo_9 : decode b_MmayGo 9 = .ok (.aload_n 0, 1) := by decide +kernel
theorem d_MmayGo_10 : decode b_MmayGo 10 = .ok (.iload_n 2, 1) := by decide +kernel
theorem d_MmayGo_11 : decode b_MmayGo 11 = .ok (.iload_n 1, 1) := by decide +kernel
theorem d_MmayGo_12 : decode b_MmayGo 12 = .ok (.invokevirtual 98, 3) := by decide +kernel
theorem d_MmayGo_15 : decode b_MmayGo 15 = .ok (.ifCond .ne 33, 3) := by decide +kernel
theorem d_MmayGo_18 : decode b_MmayGo 18 = .ok (.aload_n 0, 1) := by decide +kernel
theorem d_MmayGo_19 : decode b_MmayGo 19 = .ok (.iload_n 2, 1) := by decide +kernel
theorem d_MmayGo_20 : decode b_MmayGo 20 = .ok (.invokevirtual 101, 3) := by decide +kernel
theorem d_MmayGo_23 : decode b_MmayGo 23 = .ok (.ifCond .ne 25, 3) := by decide +kernel
theorem d_MmayGo_26 : decode b_MmayGo 26 = .ok (.aload_n 0, 1) := by decide +kernel
theorem d_MmayGo_27 : decode b_MmayGo 27 = .ok (.iload_n 2, 1) := by decide +kernel
theorem d_MmayGo_28 : decode b_MmayGo 28 = .ok (.invokevirtual 94, 3) := by decide +kernel
theorem d_MmayGo_31 : decode b_MmayGo 31 = .ok (.iconst 1, 1) := by decide +kernel
theorem d_MmayGo_32 : decode b_MmayGo 32 = .ok (.iadd, 1) := by decide +kernel
theorem d_MmayGo_33 : decode b_MmayGo 33 = .ok (.aload_n 0, 1) := by decide +kernel
theorem d_MmayGo_34 : decode b_MmayGo 34 = .ok (.iload_n 1, 1) := by decide +kernel
theorem d_MmayGo_35 : decode b_MmayGo 35 = .ok (.invokevirtual 104, 3) := by decide +kernel
theorem d_MmayGo_38 : decode b_MmayGo 38 = .ok (.iadd, 1) := by decide +kernel
theorem d_MmayGo_39 : decode b_MmayGo 39 = .ok (.bipush 8, 2) := by decide +kernel
theorem d_MmayGo_41 : decode b_MmayGo 41 = .ok (.if_icmp .gt 7, 3) := by decide +kernel
theorem d_MmayGo_44 : decode b_MmayGo 44 = .ok (.iconst 1, 1) := by decide +kernel
theorem d_MmayGo_45 : decode b_MmayGo 45 = .ok (.goto 4, 3) := by decide +kernel
theorem d_MmayGo_48 : decode b_MmayGo 48 = .ok (.iconst 0, 1) := by decide +kernel
theorem d_MmayGo_49 : decode b_MmayGo 49 = .ok (.ireturn, 1) := by decide +kernel
theorem d_MisBelow_0 : decode b_MisBelow 0 = .ok (.iload_n 1, 1) := by decide +kernel
theorem d_MisBelow_1 : decode b_MisBelow 1 = .ok (.istore_n 3, 1) := by decide +kernel
theorem d_MisBelow_2 : decode b_MisBelow 2 = .ok (.iload_n 3, 1) := by decide +kernel
theorem d_MisBelow_3 : decode b_MisBelow 3 = .ok (.ifCond .eq 29, 3) := by decide +kernel
theorem d_MisBelow_6 : decode b_MisBelow 6 = .ok (.aload_n 0, 1) := by decide +kernel
theorem d_MisBelow_7 : decode b_MisBelow 7 = .ok (.getfield 48, 3) := by decide +kernel
theorem d_MisBelow_10 : decode b_MisBelow 10 = .ok (.iload_n 3, 1) := by decide +kernel
theorem d_MisBelow_11 : decode b_MisBelow 11 = .ok (.iaload, 1) := by decide +kernel
theorem d_MisBelow_12 : decode b_MisBelow 12 = .ok (.bipush 40, 2) := by decide +kernel
theorem d_MisBelow_14 : decode b_MisBelow 14 = .ok (.if_icmp .eq 18, 3) := by decide +kernel
theorem d_MisBelow_17 : decode b_MisBelow 17 = .ok (.iload_n 3, 1) := by decide +kernel
theorem d_MisBelow_18 : decode b_MisBelow 18 = .ok (.iload_n 2, 1) := by decide +kernel
theorem d_MisBelow_19 : decode b_MisBelow 19 = .ok (.if_icmp .eq 13, 3) := by decide +kernel
theorem d_MisBelow_22 : decode b_MisBelow 22 = .ok (.aload_n 0, 1) := by decide +kernel
theorem d_MisBelow_23 : decode b_MisBelow 23 = .ok (.getfield 48, 3) := by decide +kernel
theorem d_MisBelow_26 : decode b_MisBelow 26 = .ok (.iload_n 3, 1) := by decide +kernel
theorem d_MisBelow_27 : decode b_MisBelow 27 = .ok (.iaload, 1) := by decide +kernel
theorem d_MisBelow_28 : decode b_MisBelow 28 = .ok (.istore_n 3, 1) := by decide +kernel
theorem d_MisBelow_29 : decode b_MisBelow 29 = .ok (.goto (-27), 3) := by decide +kernel
theorem d_MisBelow_32 : decode b_MisBelow 32 = .ok (.iload_n 3, 1) := by decide +kernel
theorem d_MisBelow_33 : decode b_MisBelow 33 = .ok (.iload_n 2, 1) := by decide +kernel
theorem d_MisBelow_34 : decode b_MisBelow 34 = .ok (.if_icmp .ne 7, 3) := by decide +kernel
theorem d_MisBelow_37 : decode b_MisBelow 37 = .ok (.iconst 1, 1) := by decide +kernel
theorem d_MisBelow_38 : decode b_MisBelow 38 = .ok (.goto 4, 3) := by decide +kernel
theorem d_MisBelow_41 : decode b_MisBelow 41 = .ok (.iconst 0, 1) := by decide +kernel
theorem d_MisBelow_42 : decode b_MisBelow 42 = .ok (.ireturn, 1) := by decide +kernel
theorem d_Mtop_0 : decode b_Mtop 0 = .ok (.iload_n 1, 1) := by decide +kernel
theorem d_Mtop_1 : decode b_Mtop 1 = .ok (.istore_n 2, 1) := by decide +kernel
theorem d_Mtop_2 : decode b_Mtop 2 = .ok (.iload_n 2, 1) := by decide +kernel
theorem d_Mtop_3 : decode b_Mtop 3 = .ok (.ifCond .eq 24, 3) := by decide +kernel
theorem d_Mtop_6 : decode b_Mtop 6 = .ok (.aload_n 0, 1) := by decide +kernel
theorem d_Mtop_7 : decode b_Mtop 7 = .ok (.getfield 48, 3) := by decide +kernel
theorem d_Mtop_10 : decode b_Mtop 10 = .ok (.iload_n 2, 1) := by decide +kernel
theorem d_Mtop_11 : decode b_Mtop 11 = .ok (.iaload, 1) := by decide +kernel
theorem d_Mtop_12 : decode b_Mtop 12 = .ok (.bipush 40, 2) := by decide +kernel
theorem d_Mtop_14 : decode b_Mtop 14 = .ok (.if_icmp .eq 13, 3) := by decide +kernel
theorem d_Mtop_17 : decode b_Mtop 17 = .ok (.aload_n 0, 1) := by decide +kernel
theorem d_Mtop_18 : decode b_Mtop 18 = .ok (.getfield 48, 3) := by decide +kernel
theorem d_Mtop_21 : decode b_Mtop 21 = .ok (.iload_n 2, 1) := by decide +kernel
theorem d_Mtop_22 : decode b_Mtop 22 = .ok (.iaload, 1) := by decide +kernel
theorem d_Mtop_23 : decode b_Mtop 23 = .ok (.istore_n 2, 1) := by decide +kernel
theorem d_Mtop_24 : decode b_Mtop 24 = .ok (.goto (-22), 3) := by decide +kernel
theorem d_Mtop_27 : decode b_Mtop 27 = .ok (.iload_n 2, 1) := by decide +kernel
theorem d_Mtop_28 : decode b_Mtop 28 = .ok (.ireturn, 1) := by decide +kernel
theorem d_Mdepth_0 : decode b_Mdepth 0 = .ok (.iconst 0, 1) := by decide +kernel
theorem d_Mdepth_1 : decode b_Mdepth 1 = .ok (.istore_n 2, 1) := by decide +kernel
theorem d_Mdepth_2 : decode b_Mdepth 2 = .ok (.iload_n 1, 1) := by decide +kernel
theorem d_Mdepth_3 : decode b_Mdepth 3 = .ok (.istore_n 3, 1) := by decide +kernel
theorem d_Mdepth_4 : decode b_Mdepth 4 = .ok (.iload_n 3, 1) := by decide +kernel
theorem d_Mdepth_5 : decode b_Mdepth 5 = .ok (.ifCond .eq 27, 3) := by decide +kernel
theorem d_Mdepth_8 : decode b_Mdepth 8 = .ok (.aload_n 0, 1) := by decide +kernel
theorem d_Mdepth_9 : decode b_Mdepth 9 = .ok (.getfield 48, 3) := by decide +kernel
theorem d_Mdepth_12 : decode b_Mdepth 12 = .ok (.iload_n 3, 1) := by decide +kernel
theorem d_Mdepth_13 : decode b_Mdepth 13 = .ok (.iaload, 1) := by decide +kernel
theorem d_Mdepth_14 : decode b_Mdepth 14 = .ok (.bipush 40, 2) := by decide +kernel
theorem d_Mdepth_16 : decode b_Mdepth 16 = .ok (.if_icmp .eq 16, 3) := by decide +kernel
theorem d_Mdepth_19 : decode b_Mdepth 19 = .ok (.aload_n 0, 1) := by decide +kernel
theorem d_Mdepth_20 : decode b_Mdepth 20 = .ok (.getfield 48, 3) := by decide +kernel
theorem d_Mdepth_23 : decode b_Mdepth 23 = .ok (.iload_n 3, 1) := by decide +kernel
theorem d_Mdepth_24 : decode b_Mdepth 24 = .ok (.iaload, 1) := by decide +kernel
theorem d_Mdepth_25 : decode b_Mdepth 25 = .ok (.istore_n 3, 1) := by decide +kernel
theorem d_Mdepth_26 : decode b_Mdepth 26 = .ok (.iinc 2 1, 3) := by decide +kernel
theorem d_Mdepth_29 : decode b_Mdepth 29 = .ok (.goto (-25), 3) := by decide +kernel
theorem d_Mdepth_32 : decode b_Mdepth 32 = .ok (.iload_n 2, 1) := by decide +kernel
theorem d_Mdepth_33 : decode b_Mdepth 33 = .ok (.ireturn, 1) := by decide +kernel
theorem d_Mheight_0 : decode b_Mheight 0 = .ok (.iconst 0, 1) := by decide +kernel
theorem d_Mheight_1 : decode b_Mheight 1 = .ok (.istore_n 2, 1) := by decide +kernel
theorem d_Mheight_2 : decode b_Mheight 2 = .ok (.aload_n 0, 1) := by decide +kernel
theorem d_Mheight_3 : decode b_Mheight 3 = .ok (.iload_n 1, 1) := by decide +kernel
theorem d_Mheight_4 : decode b_Mheight 4 = .ok (.invokevirtual 94, 3) := by decide +kernel
theorem d_Mheight_7 : decode b_Mheight 7 = .ok (.istore_n 3, 1) := by decide +kernel
theorem d_Mheight_8 : decode b_Mheight 8 = .ok (.iconst 1, 1) := by decide +kernel
theorem d_Mheight_9 : decode b_Mheight 9 = .ok (.istore 4, 2) := by decide +kernel
theorem d_Mheight_11 : decode b_Mheight 11 = .ok (.iload 4, 2) := by decide +kernel
theorem d_Mheight_13 : decode b_Mheight 13 = .ok (.aload_n 0, 1) := by decide +kernel
theorem d_Mheight_14 : decode b_Mheight 14 = .ok (.getfield 28, 3) := by decide +kernel
theorem d_Mheight_17 : decode b_Mheight 17 = .ok (.if_icmp .ge 55, 3) := by decide +kernel
theorem d_Mheight_20 : decode b_Mheight 20 = .ok (.aload_n 0, 1) := by decide +kernel
theorem d_Mheight_21 : decode b_Mheight 21 = .ok (.getfield 45, 3) := by decide +kernel
theorem d_Mheight_24 : decode b_Mheight 24 = .ok (.iload 4, 2) := by decide +kernel
theorem d_Mheight_26 : decode b_Mheight 26 = .ok (.baload, 1) := by decide +kernel
theorem d_Mheight_27 : decode b_Mheight 27 = .ok (.ifCond .eq 39, 3) := by decide +kernel
theorem d_Mheight_30 : decode b_Mheight 30 = .ok (.aload_n 0, 1) := by decide +kernel
theorem d_Mheight_31 : decode b_Mheight 31 = .ok (.iload 4, 2) := by decide +kernel
theorem d_Mheight_33 : decode b_Mheight 33 = .ok (.iload_n 1, 1) := by decide +kernel
theorem d_Mheight_34 : decode b_Mheight 34 = .ok (.invokevirtual 98, 3) := by decide +kernel
theorem d_Mheight_37 : decode b_Mheight 37 = .ok (.ifCond .ne 6, 3) := by decide +kernel
theorem d_Mheight_40 : decode b_Mheight 40 = .ok (.goto 26, 3) := by decide +kernel
theorem d_Mheight_43 : decode b_Mheight 43 = .ok (.aload_n 0, 1) := by decide +kernel
theorem d_Mheight_44 : decode b_Mheight 44 = .ok (.iload 4, 2) := by decide +kernel
theorem d_Mheight_46 : decode b_Mheight 46 = .ok (.invokevirtual 94, 3) := by decide +kernel
theorem d_Mheight_49 : decode b_Mheight 49 = .ok (.iload_n 3, 1) := by decide +kernel
theorem d_Mheight_50 : decode b_Mheight 50 = .ok (.isub, 1) := by decide +kernel
theorem d_Mheight_51 : decode b_Mheight 51 = .ok (.istore 5, 2) := by decide +kernel
theorem d_Mheight_53 : decode b_Mheight 53 = .ok (.iload 5, 2) := by decide +kernel
theorem d_Mheight_55 : decode b_Mheight 55 = .ok (.iload_n 2, 1) := by decide +kernel
theorem d_Mheight_56 : decode b_Mheight 56 = .ok (.if_icmp .le 8, 3) := by decide +kernel
theorem d_Mheight_59 : decode b_Mheight 59 = .ok (.iload 5, 2) := by decide +kernel
theorem d_Mheight_61 : decode b_Mheight 61 = .ok (.goto 4, 3) := by decide +kernel
theorem d_Mheight_64 : decode b_Mheight 64 = .ok (.iload_n 2, 1) := by decide +kernel
theorem d_Mheight_65 : decode b_Mheight 65 = .ok (.istore_n 2, 1) := by decide +kernel
theorem d_Mheight_66 : decode b_Mheight 66 = .ok (.iinc 4 1, 3) := by decide +kernel
theorem d_Mheight_69 : decode b_Mheight 69 = .ok (.goto (-58), 3) := by decide +kernel
theorem d_Mheight_72 : decode b_Mheight 72 = .ok (.iload_n 2, 1) := by decide +kernel
theorem d_Mheight_73 : decode b_Mheight 73 = .ok (.ireturn, 1) := by decide +kernel
theorem d_MtakeOut_0 : decode b_MtakeOut 0 = .ok (.aload_n 0, 1) := by decide +kernel
theorem d_MtakeOut_1 : decode b_MtakeOut 1 = .ok (.getfield 48, 3) := by decide +kernel
theorem d_MtakeOut_4 : decode b_MtakeOut 4 = .ok (.iload_n 1, 1) := by decide +kernel
theorem d_MtakeOut_5 : decode b_MtakeOut 5 = .ok (.iaload, 1) := by decide +kernel
theorem d_MtakeOut_6 : decode b_MtakeOut 6 = .ok (.istore_n 2, 1) := by decide +kernel
theorem d_MtakeOut_7 : decode b_MtakeOut 7 = .ok (.iconst 0, 1) := by decide +kernel
theorem d_MtakeOut_8 : decode b_MtakeOut 8 = .ok (.istore_n 3, 1) := by decide +kernel
theorem d_MtakeOut_9 : decode b_MtakeOut 9 = .ok (.iconst 0, 1) := by decide +kernel
theorem d_MtakeOut_10 : decode b_MtakeOut 10 = .ok (.istore 4, 2) := by decide +kernel
theorem d_MtakeOut_12 : decode b_MtakeOut 12 = .ok (.iload 4, 2) := by decide +kernel
theorem d_MtakeOut_14 : decode b_MtakeOut 14 = .ok (.aload_n 0, 1) := by decide +kernel
theorem d_MtakeOut_15 : decode b_MtakeOut 15 = .ok (.getfield 54, 3) := by decide +kernel
theorem d_MtakeOut_18 : decode b_MtakeOut 18 = .ok (.iload_n 2, 1) := by decide +kernel
theorem d_MtakeOut_19 : decode b_MtakeOut 19 = .ok (.iaload, 1) := by decide +kernel
theorem d_MtakeOut_20 : decode b_MtakeOut 20 = .ok (.if_icmp .ge 48, 3) := by decide +kernel
theorem d_MtakeOut_23 : decode b_MtakeOut 23 = .ok (.aload_n 0, 1) := by decide +kernel
theorem d_MtakeOut_24 : decode b_MtakeOut 24 = .ok (.getfield 57, 3) := by decide +kernel
theorem d_MtakeOut_27 : decode b_MtakeOut 27 = .ok (.bipush 40, 2) := by decide +kernel
theorem d_MtakeOut_29 : decode b_MtakeOut 29 = .ok (.iload_n 2, 1) := by decide +kernel
theorem d_MtakeOut_30 : decode b_MtakeOut 30 = .ok (.imul, 1) := by decide +kernel
theorem d_MtakeOut_31 : decode b_MtakeOut 31 = .ok (.iload 4, 2) := by decide +kernel
theorem d_MtakeOut_33 : decode b_MtakeOut 33 = .ok (.iadd, 1) := by decide +kernel
theorem d_MtakeOut_34 : decode b_MtakeOut 34 = .ok (.iaload, 1) := by decide +kernel
theorem d_MtakeOut_35 : decode b_MtakeOut 35 = .ok (.istore 5, 2) := by decide +kernel
theorem d_MtakeOut_37 : decode b_MtakeOut 37 = .ok (.iload 5, 2) := by decide +kernel
theorem d_MtakeOut_39 : decode b_MtakeOut 39 = .ok (.iload_n 1, 1) := by decide +kernel
theorem d_MtakeOut_40 : decode b_MtakeOut 40 = .ok (.if_icmp .ne 6, 3) := by decide +kernel
theorem d_MtakeOut_43 : decode b_MtakeOut 43 = .ok (.goto 19, 3) := by decide +kernel
theorem d_MtakeOut_46 : decode b_MtakeOut 46 = .ok (.aload_n 0, 1) := by decide +kernel
theorem d_MtakeOut_47 : decode b_MtakeOut 47 = .ok (.getfield 57, 3) := by decide +kernel
theorem d_MtakeOut_50 : decode b_MtakeOut 50 = .ok (.bipush 40, 2) := by decide +kernel
theorem d_MtakeOut_52 : decode b_MtakeOut 52 = .ok (.iload_n 2, 1) := by decide +kernel
theorem d_MtakeOut_53 : decode b_MtakeOut 53 = .ok (.imul, 1) := by decide +kernel
theorem d_MtakeOut_54 : decode b_MtakeOut 54 = .ok (.iload_n 3, 1) := by decide +kernel
theorem d_MtakeOut_55 : decode b_MtakeOut 55 = .ok (.iadd, 1) := by decide +kernel
theorem d_MtakeOut_56 : decode b_MtakeOut 56 = .ok (.iload 5, 2) := by decide +kernel
theorem d_MtakeOut_58 : decode b_MtakeOut 58 = .ok (.iastore, 1) := by decide +kernel
theorem d_MtakeOut_59 : decode b_MtakeOut 59 = .ok (.iinc 3 1, 3) := by decide +kernel
theorem d_MtakeOut_62 : decode b_MtakeOut 62 = .ok (.iinc 4 1, 3) := by decide +kernel
theorem d_MtakeOut_65 : decode b_MtakeOut 65 = .ok (.goto (-53), 3) := by decide +kernel
theorem d_MtakeOut_68 : decode b_MtakeOut 68 = .ok (.aload_n 0, 1) := by decide +kernel
theorem d_MtakeOut_69 : decode b_MtakeOut 69 = .ok (.getfield 54, 3) := by decide +kernel
theorem d_MtakeOut_72 : decode b_MtakeOut 72 = .ok (.iload_n 2, 1) := by decide +kernel
theorem d_MtakeOut_73 : decode b_MtakeOut 73 = .ok (.iload_n 3, 1) := by decide +kernel
theorem d_MtakeOut_74 : decode b_MtakeOut 74 = .ok (.iastore, 1) := by decide +kernel
theorem d_MtakeOut_75 : decode b_MtakeOut 75 = .ok (.return_, 1) := by decide +kernel
theorem d_MplaceOf_0 : decode b_MplaceOf 0 = .ok (.iconst 0, 1) := by decide +kernel
theorem d_MplaceOf_1 : decode b_MplaceOf 1 = .ok (.istore_n 3, 1) := by decide +kernel
theorem d_MplaceOf_2 : decode b_MplaceOf 2 = .ok (.iload_n 3, 1) := by decide +kernel
theorem d_MplaceOf_3 : decode b_MplaceOf 3 = .ok (.aload_n 0, 1) := by decide +kernel
theorem d_MplaceOf_4 : decode b_MplaceOf 4 = .ok (.getfield 54, 3) := by decide +kernel
theorem d_MplaceOf_7 : decode b_MplaceOf 7 = .ok (.iload_n 2, 1) := by decide +kernel
theorem d_MplaceOf_8 : decode b_MplaceOf 8 = .ok (.iaload, 1) := by decide +kernel
theorem d_MplaceOf_9 : decode b_MplaceOf 9 = .ok (.if_icmp .ge 26, 3) := by decide +kernel
theorem d_MplaceOf_12 : decode b_MplaceOf 12 = .ok (.aload_n 0, 1) := by decide +kernel
theorem d_MplaceOf_13 : decode b_MplaceOf 13 = .ok (.getfield 57, 3) := by decide +kernel
theorem d_MplaceOf_16 : decode b_MplaceOf 16 = .ok (.bipush 40, 2) := by decide +kernel
theorem d_MplaceOf_18 : decode b_MplaceOf 18 = .ok (.iload_n 2, 1) := by decide +kernel
theorem d_MplaceOf_19 : decode b_MplaceOf 19 = .ok (.imul, 1) := by decide +kernel
theorem d_MplaceOf_20 : decode b_MplaceOf 20 = .ok (.iload_n 3, 1) := by decide +kernel
theorem d_MplaceOf_21 : decode b_MplaceOf 21 = .ok (.iadd, 1) := by decide +kernel
theorem d_MplaceOf_22 : decode b_MplaceOf 22 = .ok (.iaload, 1) := by decide +kernel
theorem d_MplaceOf_23 : decode b_MplaceOf 23 = .ok (.iload_n 1, 1) := by decide +kernel
theorem d_MplaceOf_24 : decode b_MplaceOf 24 = .ok (.if_icmp .ne 5, 3) := by decide +kernel
theorem d_MplaceOf_27 : decode b_MplaceOf 27 = .ok (.iload_n 3, 1) := by decide +kernel
theorem d_MplaceOf_28 : decode b_MplaceOf 28 = .ok (.ireturn, 1) := by decide +kernel
theorem d_MplaceOf_29 : decode b_MplaceOf 29 = .ok (.iinc 3 1, 3) := by decide +kernel
theorem d_MplaceOf_32 : decode b_MplaceOf 32 = .ok (.goto (-30), 3) := by decide +kernel
theorem d_MplaceOf_35 : decode b_MplaceOf 35 = .ok (.iconst (-1), 1) := by decide +kernel
theorem d_MplaceOf_36 : decode b_MplaceOf 36 = .ok (.ireturn, 1) := by decide +kernel
theorem d_MdoRemove_0 : decode b_MdoRemove 0 = .ok (.aload_n 0, 1) := by decide +kernel
theorem d_MdoRemove_1 : decode b_MdoRemove 1 = .ok (.getfield 45, 3) := by decide +kernel
theorem d_MdoRemove_4 : decode b_MdoRemove 4 = .ok (.iload_n 1, 1) := by decide +kernel
theorem d_MdoRemove_5 : decode b_MdoRemove 5 = .ok (.baload, 1) := by decide +kernel
theorem d_MdoRemove_6 : decode b_MdoRemove 6 = .ok (.ifCond .eq 14, 3) := by decide +kernel
theorem d_MdoRemove_9 : decode b_MdoRemove 9 = .ok (.aload_n 0, 1) := by decide +kernel
theorem d_MdoRemove_10 : decode b_MdoRemove 10 = .ok (.getfield 48, 3) := by decide +kernel
theorem d_MdoRemove_13 : decode b_MdoRemove 13 = .ok (.iload_n 1, 1) := by decide +kernel
theorem d_MdoRemove_14 : decode b_MdoRemove 14 = .ok (.iaload, 1) := by decide +kernel
theorem d_MdoRemove_15 : decode b_MdoRemove 15 = .ok (.bipush 40, 2) := by decide +kernel
theorem d_MdoRemove_17 : decode b_MdoRemove 17 = .ok (.if_icmp .ne 5, 3) := by decide +kernel
theorem d_MdoRemove_20 : decode b_MdoRemove 20 = .ok (.iconst 0, 1) := by decide +kernel
theorem d_MdoRemove_21 : decode b_MdoRemove 21 = .ok (.ireturn, 1) := by decide +kernel
theorem d_MdoRemove_22 : decode b_MdoRemove 22 = .ok (.aload_n 0, 1) := by decide +kernel
theorem d_MdoRemove_23 : decode b_MdoRemove 23 = .ok (.iload_n 1, 1) := by decide +kernel
theorem d_MdoRemove_24 : decode b_MdoRemove 24 = .ok (.invokevirtual 110, 3) := by decide +kernel
theorem d_MdoRemove_27 : decode b_MdoRemove 27 = .ok (.aload_n 0, 1) := by decide +kernel
theorem d_MdoRemove_28 : decode b_MdoRemove 28 = .ok (.iload_n 1, 1) := by decide +kernel
theorem d_MdoRemove_29 : decode b_MdoRemove 29 = .ok (.bipush 40, 2) := by decide +kernel
theorem d_MdoRemove_31 : decode b_MdoRemove 31 = .ok (.aload_n 0, 1) := by decide +kernel
theorem d_MdoRemove_32 : decode b_MdoRemove 32 = .ok (.getfield 54, 3) := by decide +kernel
theorem d_MdoRemove_35 : decode b_MdoRemove 35 = .ok (.bipush 40, 2) := by decide +kernel
theorem d_MdoRemove_37 : decode b_MdoRemove 37 = .ok (.iaload, 1) := by decide +kernel
theorem d_MdoRemove_38 : decode b_MdoRemove 38 = .ok (.invokevirtual 118, 3) := by decide +kernel
theorem d_MdoRemove_41 : decode b_MdoRemove 41 = .ok (.iconst 1, 1) := by decide +kernel
theorem d_MdoRemove_42 : decode b_MdoRemove 42 = .ok (.ireturn, 1) := by decide +kernel
theorem d_MdoRestore_0 : decode b_MdoRestore 0 = .ok (.aload_n 0, 1) := by decide +kernel
theorem d_MdoRestore_1 : decode b_MdoRestore 1 = .ok (.getfield 45, 3) := by decide +kernel
theorem d_MdoRestore_4 : decode b_MdoRestore 4 = .ok (.iload_n 1, 1) := by decide +kernel
theorem d_MdoRestore_5 : decode b_MdoRestore 5 = .ok (.baload, 1) := by decide +kernel
theorem d_MdoRestore_6 : decode b_MdoRestore 6 = .ok (.ifCond .eq 14, 3) := by decide +kernel
theorem d_MdoRestore_9 : decode b_MdoRestore 9 = .ok (.aload_n 0, 1) := by decide +kernel
theorem d_MdoRestore_10 : decode b_MdoRestore 10 = .ok (.getfield 48, 3) := by decide +kernel
theorem d_MdoRestore_13 : decode b_MdoRestore 13 = .ok (.iload_n 1, 1) := by decide +kernel
theorem d_MdoRestore_14 : decode b_MdoRestore 14 = .ok (.iaload, 1) := by decide +kernel
theorem d_MdoRestore_15 : decode b_MdoRestore 15 = .ok (.bipush 40, 2) := by decide +kernel
theorem d_MdoRestore_17 : decode b_MdoRestore 17 = .ok (.if_icmp .eq 5, 3) := by decide +kernel
theorem d_MdoRestore_20 : decode b_MdoRestore 20 = .ok (.iconst 0, 1) := by decide +kernel
theorem d_MdoRestore_21 : decode b_MdoRestore 21 = .ok (.ireturn, 1) := by decide +kernel
theorem d_MdoRestore_22 : decode b_MdoRestore 22 = .ok (.aload_n 0, 1) := by decide +kernel
theorem d_MdoRestore_23 : decode b_MdoRestore 23 = .ok (.iload_n 1, 1) := by decide +kernel
theorem d_MdoRestore_24 : decode b_MdoRestore 24 = .ok (.aload_n 0, 1) := by decide +kernel
theorem d_MdoRestore_25 : decode b_MdoRestore 25 = .ok (.getfield 51, 3) := by decide +kernel
theorem d_MdoRestore_28 : decode b_MdoRestore 28 = .ok (.iload_n 1, 1) := by decide +kernel
theorem d_MdoRestore_29 : decode b_MdoRestore 29 = .ok (.iaload, 1) := by decide +kernel
theorem d_MdoRestore_30 : decode b_MdoRestore 30 = .ok (.invokevirtual 107, 3) := by decide +kernel
theorem d_MdoRestore_33 : decode b_MdoRestore 33 = .ok (.ifCond .eq 12, 3) := by decide +kernel
theorem d_MdoRestore_36 : decode b_MdoRestore 36 = .ok (.aload_n 0, 1) := by decide +kernel
theorem d_MdoRestore_37 : decode b_MdoRestore 37 = .ok (.getfield 51, 3) := by decide +kernel
theorem d_MdoRestore_40 : decode b_MdoRestore 40 = .ok (.iload_n 1, 1) := by decide +kernel
theorem d_MdoRestore_41 : decode b_MdoRestore 41 = .ok (.iaload, 1) := by decide +kernel
theorem d_MdoRestore_42 : decode b_MdoRestore 42 = .ok (.goto 17, 3) := by decide +kernel
theorem d_MdoRestore_45 : decode b_MdoRestore 45 = .ok (.aload_n 0, 1) := by decide +kernel
theorem d_MdoRestore_46 : decode b_MdoRestore 46 = .ok (.iload_n 1, 1) := by decide +kernel
theorem d_MdoRestore_47 : decode b_MdoRestore 47 = .ok (.iconst 0, 1) := by decide +kernel
theorem d_MdoRestore_48 : decode b_MdoRestore 48 = .ok (.invokevirtual 107, 3) := by decide +kernel
theorem d_MdoRestore_51 : decode b_MdoRestore 51 = .ok (.ifCond .eq 7, 3) := by decide +kernel
theorem d_MdoRestore_54 : decode b_MdoRestore 54 = .ok (.iconst 0, 1) := by decide +kernel
theorem d_MdoRestore_55 : decode b_MdoRestore 55 = .ok (.goto 4, 3) := by decide +kernel
theorem d_MdoRestore_58 : decode b_MdoRestore 58 = .ok (.iconst (-1), 1) := by decide +kernel
theorem d_MdoRestore_59 : decode b_MdoRestore 59 = .ok (.istore_n 2, 1) := by decide +kernel
theorem d_MdoRestore_60 : decode b_MdoRestore 60 = .ok (.iload_n 2, 1) := by decide +kernel
theorem d_MdoRestore_61 : decode b_MdoRestore 61 = .ok (.iconst (-1), 1) := by decide +kernel
theorem d_MdoRestore_62 : decode b_MdoRestore 62 = .ok (.if_icmp .ne 5, 3) := by decide +kernel
theorem d_MdoRestore_65 : decode b_MdoRestore 65 = .ok (.iconst 0, 1) := by decide +kernel
theorem d_MdoRestore_66 : decode b_MdoRestore 66 = .ok (.ireturn, 1) := by decide +kernel
theorem d_MdoRestore_67 : decode b_MdoRestore 67 = .ok (.aload_n 0, 1) := by decide +kernel
theorem d_MdoRestore_68 : decode b_MdoRestore 68 = .ok (.iload_n 1, 1) := by decide +kernel
theorem d_MdoRestore_69 : decode b_MdoRestore 69 = .ok (.invokevirtual 110, 3) := by decide +kernel
theorem d_MdoRestore_72 : decode b_MdoRestore 72 = .ok (.aload_n 0, 1) := by decide +kernel
theorem d_MdoRestore_73 : decode b_MdoRestore 73 = .ok (.iload_n 1, 1) := by decide +kernel
theorem d_MdoRestore_74 : decode b_MdoRestore 74 = .ok (.iload_n 2, 1) := by decide +kernel
theorem d_MdoRestore_75 : decode b_MdoRestore 75 = .ok (.aload_n 0, 1) := by decide +kernel
theorem d_MdoRestore_76 : decode b_MdoRestore 76 = .ok (.getfield 54, 3) := by decide +kernel
theorem d_MdoRestore_79 : decode b_MdoRestore 79 = .ok (.iload_n 2, 1) := by decide +kernel
theorem d_MdoRestore_80 : decode b_MdoRestore 80 = .ok (.iaload, 1) := by decide +kernel
theorem d_MdoRestore_81 : decode b_MdoRestore 81 = .ok (.invokevirtual 118, 3) := by decide +kernel
theorem d_MdoRestore_84 : decode b_MdoRestore 84 = .ok (.aload_n 0, 1) := by decide +kernel
theorem d_MdoRestore_85 : decode b_MdoRestore 85 = .ok (.getfield 51, 3) := by decide +kernel
theorem d_MdoRestore_88 : decode b_MdoRestore 88 = .ok (.iload_n 1, 1) := by decide +kernel
theorem d_MdoRestore_89 : decode b_MdoRestore 89 = .ok (.iload_n 2, 1) := by decide +kernel
theorem d_MdoRestore_90 : decode b_MdoRestore 90 = .ok (.iastore, 1) := by decide +kernel
theorem d_MdoRestore_91 : decode b_MdoRestore 91 = .ok (.iconst 1, 1) := by decide +kernel
theorem d_MdoRestore_92 : decode b_MdoRestore 92 = .ok (.ireturn, 1) := by decide +kernel
theorem d_MparentOf_0 : decode b_MparentOf 0 = .ok (.iload_n 1, 1) := by decide +kernel
theorem d_MparentOf_1 : decode b_MparentOf 1 = .ok (.ifCond .eq 14, 3) := by decide +kernel
theorem d_MparentOf_4 : decode b_MparentOf 4 = .ok (.aload_n 0, 1) := by decide +kernel
theorem d_MparentOf_5 : decode b_MparentOf 5 = .ok (.getfield 48, 3) := by decide +kernel
theorem d_MparentOf_8 : decode b_MparentOf 8 = .ok (.iload_n 1, 1) := by decide +kernel
theorem d_MparentOf_9 : decode b_MparentOf 9 = .ok (.iaload, 1) := by decide +kernel
theorem d_MparentOf_10 : decode b_MparentOf 10 = .ok (.bipush 40, 2) := by decide +kernel
theorem d_MparentOf_12 : decode b_MparentOf 12 = .ok (.if_icmp .ne 7, 3) := by decide +kernel
theorem d_MparentOf_15 : decode b_MparentOf 15 = .ok (.iconst (-1), 1) := by decide +kernel
theorem d_MparentOf_16 : decode b_MparentOf 16 = .ok (.goto 9, 3) := by decide +kernel
theorem d_MparentOf_19 : decode b_MparentOf 19 = .ok (.aload_n 0, 1) := by decide +kernel
theorem d_MparentOf_20 : decode b_MparentOf 20 = .ok (.getfield 48, 3) := by decide +kernel
theorem d_MparentOf_23 : decode b_MparentOf 23 = .ok (.iload_n 1, 1) := by decide +kernel
theorem d_MparentOf_24 : decode b_MparentOf 24 = .ok (.iaload, 1) := by decide +kernel
theorem d_MparentOf_25 : decode b_MparentOf 25 = .ok (.ireturn, 1) := by decide +kernel
theorem d_Mchild_0 : decode b_Mchild 0 = .ok (.aload_n 0, 1) := by decide +kernel
theorem d_Mchild_1 : decode b_Mchild 1 = .ok (.iconst 0, 1) := by decide +kernel
theorem d_Mchild_2 : decode b_Mchild 2 = .ok (.putfield 78, 3) := by decide +kernel
theorem d_Mchild_5 : decode b_Mchild 5 = .ok (.iload_n 1, 1) := by decide +kernel
theorem d_Mchild_6 : decode b_Mchild 6 = .ok (.invokestatic 152, 3) := by decide +kernel
theorem d_Mchild_9 : decode b_Mchild 9 = .ok (.ifCond .eq 17, 3) := by decide +kernel
theorem d_Mchild_12 : decode b_Mchild 12 = .ok (.iload_n 2, 1) := by decide +kernel
theorem d_Mchild_13 : decode b_Mchild 13 = .ok (.iconst (-1), 1) := by decide +kernel
theorem d_Mchild_14 : decode b_Mchild 14 = .ok (.if_icmp .eq 14, 3) := by decide +kernel
theorem d_Mchild_17 : decode b_Mchild 17 = .ok (.aload_n 0, 1) := by decide +kernel
theorem d_Mchild_18 : decode b_Mchild 18 = .ok (.iload_n 1, 1) := by decide +kernel
theorem d_Mchild_19 : decode b_Mchild 19 = .ok (.iload_n 2, 1) := by decide +kernel
theorem d_Mchild_20 : decode b_Mchild 20 = .ok (.invokevirtual 165, 3) := by decide +kernel
theorem d_Mchild_23 : decode b_Mchild 23 = .ok (.ifCond .ne 5, 3) := by decide +kernel
theorem d_Mchild_26 : decode b_Mchild 26 = .ok (.iconst (-1), 1) := by decide +kernel
theorem d_Mchild_27 : decode b_Mchild 27 = .ok (.ireturn, 1) := by decide +kernel
theorem d_Mchild_28 : decode b_Mchild 28 = .ok (.aload_n 0, 1) := by decide +kernel
theorem d_Mchild_29 : decode b_Mchild 29 = .ok (.iload_n 1, 1) := by decide +kernel
theorem d_Mchild_30 : decode b_Mchild 30 = .ok (.invokevirtual 162, 3) := by decide +kernel
theorem d_Mchild_33 : decode b_Mchild 33 = .ok (.iload_n 2, 1) := by decide +kernel
theorem d_Mchild_34 : decode b_Mchild 34 = .ok (.iconst (-1), 1) := by decide +kernel
theorem d_Mchild_35 : decode b_Mchild 35 = .ok (.if_icmp .ne 8, 3) := by decide +kernel
theorem d_Mchild_38 : decode b_Mchild 38 = .ok (.bipush 40, 2) := by decide +kernel
theorem d_Mchild_40 : decode b_Mchild 40 = .ok (.goto 4, 3) := by decide +kernel
theorem d_Mchild_43 : decode b_Mchild 43 = .ok (.iload_n 2, 1) := by decide +kernel
theorem d_Mchild_44 : decode b_Mchild 44 = .ok (.istore 4, 2) := by decide +kernel
theorem d_Mchild_46 : decode b_Mchild 46 = .ok (.iload_n 3, 1) := by decide +kernel
theorem d_Mchild_47 : decode b_Mchild 47 = .ok (.iconst 0, 1) := by decide +kernel
theorem d_Mchild_48 : decode b_Mchild 48 = .ok (.aload_n 0, 1) := by decide +kernel
theorem d_Mchild_49 : decode b_Mchild 49 = .ok (.getfield 54, 3) := by decide +kernel
theorem d_Mchild_52 : decode b_Mchild 52 = .ok (.iload 4, 2) := by decide +kernel
theorem d_Mchild_54 : decode b_Mchild 54 = .ok (.iaload, 1) := by decide +kernel
theorem d_Mchild_55 : decode b_Mchild 55 = .ok (.iconst 1, 1) := by decide +kernel
theorem d_Mchild_56 : decode b_Mchild 56 = .ok (.isub, 1) := by decide +kernel
theorem d_Mchild_57 : decode b_Mchild 57 = .ok (.invokestatic 148, 3) := by decide +kernel
theorem d_Mchild_60 : decode b_Mchild 60 = .ok (.ifCond .eq 18, 3) := by decide +kernel
theorem d_Mchild_63 : decode b_Mchild 63 = .ok (.aload_n 0, 1) := by decide +kernel
theorem d_Mchild_64 : decode b_Mchild 64 = .ok (.getfield 57, 3) := by decide +kernel
theorem d_Mchild_67 : decode b_Mchild 67 = .ok (.bipush 40, 2) := by decide +kernel
theorem d_Mchild_69 : decode b_Mchild 69 = .ok (.iload 4, 2) := by decide +kernel
theorem d_Mchild_71 : decode b_Mchild 71 = .ok (.imul, 1) := by decide +kernel
theorem d_Mchild_72 : decode b_Mchild 72 = .ok (.iload_n 3, 1) := by decide +kernel
theorem d_Mchild_73 : decode b_Mchild 73 = .ok (.iadd, 1) := by decide +kernel
theorem d_Mchild_74 : decode b_Mchild 74 = .ok (.iaload, 1) := by decide +kernel
theorem d_Mchild_75 : decode b_Mchild 75 = .ok (.goto 4, 3) := by decide +kernel
theorem d_Mchild_78 : decode b_Mchild 78 = .ok (.iconst (-1), 1) := by decide +kernel
theorem d_Mchild_79 : decode b_Mchild 79 = .ok (.ireturn, 1) := by decide +kernel
theorem d_Mrow_0 : decode b_Mrow 0 = .ok (.aload_n 0, 1) := by decide +kernel
theorem d_Mrow_1 : decode b_Mrow 1 = .ok (.iconst 0, 1) := by decide +kernel
theorem d_Mrow_2 : decode b_Mrow 2 = .ok (.putfield 78, 3) := by decide +kernel
theorem d_Mrow_5 : decode b_Mrow 5 = .ok (.iload_n 1, 1) := by decide +kernel
theorem d_Mrow_6 : decode b_Mrow 6 = .ok (.iconst 1, 1) := by decide +kernel
theorem d_Mrow_7 : decode b_Mrow 7 = .ok (.aload_n 0, 1) := by decide +kernel
theorem d_Mrow_8 : decode b_Mrow 8 = .ok (.getfield 81, 3) := by decide +kernel
theorem d_Mrow_11 : decode b_Mrow 11 = .ok (.invokestatic 148, 3) := by decide +kernel
theorem d_Mrow_14 : decode b_Mrow 14 = .ok (.ifCond .ne 5, 3) := by decide +kernel
theorem d_Mrow_17 : decode b_Mrow 17 = .ok (.iconst (-1), 1) := by decide +kernel
theorem d_Mrow_18 : decode b_Mrow 18 = .ok (.ireturn, 1) := by decide +kernel
theorem d_Mrow_19 : decode b_Mrow 19 = .ok (.iload_n 2, 1) := by decide +kernel
theorem d_Mrow_20 : decode b_Mrow 20 = .ok (.tableswitch 82 0 5 #[40, 47, 54, 61, 68, 75], 40) := by decide +kernel
theorem d_Mrow_60 : decode b_Mrow 60 = .ok (.aload_n 0, 1) := by decide +kernel
theorem d_Mrow_61 : decode b_Mrow 61 = .ok (.getfield 7, 3) := by decide +kernel
theorem d_Mrow_64 : decode b_Mrow 64 = .ok (.iload_n 1, 1) := by decide +kernel
theorem d_Mrow_65 : decode b_Mrow 65 = .ok (.iaload, 1) := by decide +kernel
theorem d_Mrow_66 : decode b_Mrow 66 = .ok (.ireturn, 1) := by decide +kernel
theorem d_Mrow_67 : decode b_Mrow 67 = .ok (.aload_n 0, 1) := by decide +kernel
theorem d_Mrow_68 : decode b_Mrow 68 = .ok (.getfield 13, 3) := by decide +kernel
theorem d_Mrow_71 : decode b_Mrow 71 = .ok (.iload_n 1, 1) := by decide +kernel
theorem d_Mrow_72 : decode b_Mrow 72 = .ok (.iaload, 1) := by decide +kernel
theorem d_Mrow_73 : decode b_Mrow 73 = .ok (.ireturn, 1) := by decide +kernel
theorem d_Mrow_74 : decode b_Mrow 74 = .ok (.aload_n 0, 1) := by decide +kernel
theorem d_Mrow_75 : decode b_Mrow 75 = .ok (.getfield 16, 3) := by decide +kernel
theorem d_Mrow_78 : decode b_Mrow 78 = .ok (.iload_n 1, 1) := by decide +kernel
theorem d_Mrow_79 : decode b_Mrow 79 = .ok (.iaload, 1) := by decide +kernel
theorem d_Mrow_80 : decode b_Mrow 80 = .ok (.ireturn, 1) := by decide +kernel
theorem d_Mrow_81 : decode b_Mrow 81 = .ok (.aload_n 0, 1) := by decide +kernel
theorem d_Mrow_82 : decode b_Mrow 82 = .ok (.getfield 19, 3) := by decide +kernel
theorem d_Mrow_85 : decode b_Mrow 85 = .ok (.iload_n 1, 1) := by decide +kernel
theorem d_Mrow_86 : decode b_Mrow 86 = .ok (.iaload, 1) := by decide +kernel
theorem d_Mrow_87 : decode b_Mrow 87 = .ok (.ireturn, 1) := by decide +kernel
theorem d_Mrow_88 : decode b_Mrow 88 = .ok (.aload_n 0, 1) := by decide +kernel
theorem d_Mrow_89 : decode b_Mrow 89 = .ok (.getfield 22, 3) := by decide +kernel
theorem d_Mrow_92 : decode b_Mrow 92 = .ok (.iload_n 1, 1) := by decide +kernel
theorem d_Mrow_93 : decode b_Mrow 93 = .ok (.iaload, 1) := by decide +kernel
theorem d_Mrow_94 : decode b_Mrow 94 = .ok (.ireturn, 1) := by decide +kernel
theorem d_Mrow_95 : decode b_Mrow 95 = .ok (.aload_n 0, 1) := by decide +kernel
theorem d_Mrow_96 : decode b_Mrow 96 = .ok (.getfield 25, 3) := by decide +kernel
theorem d_Mrow_99 : decode b_Mrow 99 = .ok (.iload_n 1, 1) := by decide +kernel
theorem d_Mrow_100 : decode b_Mrow 100 = .ok (.iaload, 1) := by decide +kernel
theorem d_Mrow_101 : decode b_Mrow 101 = .ok (.ireturn, 1) := by decide +kernel
theorem d_Mrow_102 : decode b_Mrow 102 = .ok (.iconst (-1), 1) := by decide +kernel
theorem d_Mrow_103 : decode b_Mrow 103 = .ok (.ireturn, 1) := by decide +kernel
theorem d_Mjudged_0 : decode b_Mjudged 0 = .ok (.aload_n 0, 1) := by decide +kernel
theorem d_Mjudged_1 : decode b_Mjudged 1 = .ok (.iconst 0, 1) := by decide +kernel
theorem d_Mjudged_2 : decode b_Mjudged 2 = .ok (.putfield 78, 3) := by decide +kernel
theorem d_Mjudged_5 : decode b_Mjudged 5 = .ok (.iload_n 1, 1) := by decide +kernel
theorem d_Mjudged_6 : decode b_Mjudged 6 = .ok (.invokestatic 152, 3) := by decide +kernel
theorem d_Mjudged_9 : decode b_Mjudged 9 = .ok (.ifCond .eq 15, 3) := by decide +kernel
theorem d_Mjudged_12 : decode b_Mjudged 12 = .ok (.iload_n 2, 1) := by decide +kernel
theorem d_Mjudged_13 : decode b_Mjudged 13 = .ok (.iconst 1, 1) := by decide +kernel
theorem d_Mjudged_14 : decode b_Mjudged 14 = .ok (.aload_n 0, 1) := by decide +kernel
theorem d_Mjudged_15 : decode b_Mjudged 15 = .ok (.getfield 81, 3) := by decide +kernel
theorem d_Mjudged_18 : decode b_Mjudged 18 = .ok (.invokestatic 148, 3) := by decide +kernel
theorem d_Mjudged_21 : decode b_Mjudged 21 = .ok (.ifCond .ne 5, 3) := by decide +kernel
theorem d_Mjudged_24 : decode b_Mjudged 24 = .ok (.iconst (-1), 1) := by decide +kernel
theorem d_Mjudged_25 : decode b_Mjudged 25 = .ok (.ireturn, 1) := by decide +kernel
theorem d_Mjudged_26 : decode b_Mjudged 26 = .ok (.aload_n 0, 1) := by decide +kernel
theorem d_Mjudged_27 : decode b_Mjudged 27 = .ok (.iload_n 1, 1) := by decide +kernel
theorem d_Mjudged_28 : decode b_Mjudged 28 = .ok (.invokevirtual 162, 3) := by decide +kernel
theorem d_Mjudged_31 : decode b_Mjudged 31 = .ok (.aload_n 0, 1) := by decide +kernel
theorem d_Mjudged_32 : decode b_Mjudged 32 = .ok (.getfield 60, 3) := by decide +kernel
theorem d_Mjudged_35 : decode b_Mjudged 35 = .ok (.iload_n 2, 1) := by decide +kernel
theorem d_Mjudged_36 : decode b_Mjudged 36 = .ok (.iaload, 1) := by decide +kernel
theorem d_Mjudged_37 : decode b_Mjudged 37 = .ok (.ireturn, 1) := by decide +kernel
theorem d_Malike_0 : decode b_Malike 0 = .ok (.aload_n 0, 1) := by decide +kernel
theorem d_Malike_1 : decode b_Malike 1 = .ok (.iconst 0, 1) := by decide +kernel
theorem d_Malike_2 : decode b_Malike 2 = .ok (.putfield 78, 3) := by decide +kernel
theorem d_Malike_5 : decode b_Malike 5 = .ok (.iload_n 1, 1) := by decide +kernel
theorem d_Malike_6 : decode b_Malike 6 = .ok (.invokestatic 152, 3) := by decide +kernel
theorem d_Malike_9 : decode b_Malike 9 = .ok (.ifCond .eq 10, 3) := by decide +kernel
theorem d_Malike_12 : decode b_Malike 12 = .ok (.iload_n 2, 1) := by decide +kernel
theorem d_Malike_13 : decode b_Malike 13 = .ok (.invokestatic 152, 3) := by decide +kernel
theorem d_Malike_16 : decode b_Malike 16 = .ok (.ifCond .ne 5, 3) := by decide +kernel
theorem d_Malike_19 : decode b_Malike 19 = .ok (.iconst 0, 1) := by decide +kernel
theorem d_Malike_20 : decode b_Malike 20 = .ok (.ireturn, 1) := by decide +kernel
theorem d_Malike_21 : decode b_Malike 21 = .ok (.aload_n 0, 1) := by decide +kernel
theorem d_Malike_22 : decode b_Malike 22 = .ok (.iload_n 1, 1) := by decide +kernel
theorem d_Malike_23 : decode b_Malike 23 = .ok (.invokevirtual 162, 3) := by decide +kernel
theorem d_Malike_26 : decode b_Malike 26 = .ok (.iconst 0, 1) := by decide +kernel
theorem d_Malike_27 : decode b_Malike 27 = .ok (.istore_n 3, 1) := by decide +kernel
theorem d_Malike_28 : decode b_Malike 28 = .ok (.iload_n 3, 1) := by decide +kernel
theorem d_Malike_29 : decode b_Malike 29 = .ok (.bipush 40, 2) := by decide +kernel
theorem d_Malike_31 : decode b_Malike 31 = .ok (.if_icmp .gt 65, 3) := by decide +kernel
theorem d_Malike_34 : decode b_Malike 34 = .ok (.aload_n 0, 1) := by decide +kernel
theorem d_Malike_35 : decode b_Malike 35 = .ok (.getfield 69, 3) := by decide +kernel
theorem d_Malike_38 : decode b_Malike 38 = .ok (.iload_n 3, 1) := by decide +kernel
theorem d_Malike_39 : decode b_Malike 39 = .ok (.aload_n 0, 1) := by decide +kernel
theorem d_Malike_40 : decode b_Malike 40 = .ok (.getfield 54, 3) := by decide +kernel
theorem d_Malike_43 : decode b_Malike 43 = .ok (.iload_n 3, 1) := by decide +kernel
theorem d_Malike_44 : decode b_Malike 44 = .ok (.iaload, 1) := by decide +kernel
theorem d_Malike_45 : decode b_Malike 45 = .ok (.iastore, 1) := by decide +kernel
theorem d_Malike_46 : decode b_Malike 46 = .ok (.iconst 0, 1) := by decide +kernel
theorem d_Malike_47 : decode b_Malike 47 = .ok (.istore 4, 2) := by decide +kernel
theorem d_Malike_49 : decode b_Malike 49 = .ok (.iload 4, 2) := by decide +kernel
theorem d_Malike_51 : decode b_Malike 51 = .ok (.aload_n 0, 1) := by decide +kernel
theorem d_Malike_52 : decode b_Malike 52 = .ok (.getfield 54, 3) := by decide +kernel
theorem d_Malike_55 : decode b_Malike 55 = .ok (.iload_n 3, 1) := by decide +kernel
theorem d_Malike_56 : decode b_Malike 56 = .ok (.iaload, 1) := by decide +kernel
theorem d_Malike_57 : decode b_Malike 57 = .ok (.if_icmp .ge 33, 3) := by decide +kernel
theorem d_Malike_60 : decode b_Malike 60 = .ok (.aload_n 0, 1) := by decide +kernel
theorem d_Malike_61 : decode b_Malike 61 = .ok (.getfield 72, 3) := by decide +kernel
theorem d_Malike_64 : decode b_Malike 64 = .ok (.bipush 40, 2) := by decide +kernel
theorem d_Malike_66 : decode b_Malike 66 = .ok (.iload_n 3, 1) := by decide +kernel
theorem d_Malike_67 : decode b_Malike 67 = .ok (.imul, 1) := by decide +kernel
theorem d_Malike_68 : decode b_Malike 68 = .ok (.iload 4, 2) := by decide +kernel
theorem d_Malike_70 : decode b_Malike 70 = .ok (.iadd, 1) := by decide +kernel
theorem d_Malike_71 : decode b_Malike 71 = .ok (.aload_n 0, 1) := by decide +kernel
theorem d_Malike_72 : decode b_Malike 72 = .ok (.getfield 57, 3) := by decide +kernel
theorem d_Malike_75 : decode b_Malike 75 = .ok (.bipush 40, 2) := by decide +kernel
theorem d_Malike_77 : decode b_Malike 77 = .ok (.iload_n 3, 1) := by decide +kernel
theorem d_Malike_78 : decode b_Malike 78 = .ok (.imul, 1) := by decide +kernel
theorem d_Malike_79 : decode b_Malike 79 = .ok (.iload 4, 2) := by decide +kernel
theorem d_Malike_81 : decode b_Malike 81 = .ok (.iadd, 1) := by decide +kernel
theorem d_Malike_82 : decode b_Malike 82 = .ok (.iaload, 1) := by decide +kernel
theorem d_Malike_83 : decode b_Malike 83 = .ok (.iastore, 1) := by decide +kernel
theorem d_Malike_84 : decode b_Malike 84 = .ok (.iinc 4 1, 3) := by decide +kernel
theorem d_Malike_87 : decode b_Malike 87 = .ok (.goto (-38), 3) := by decide +kernel
theorem d_Malike_90 : decode b_Malike 90 = .ok (.iinc 3 1, 3) := by decide +kernel
theorem d_Malike_93 : decode b_Malike 93 = .ok (.goto (-65), 3) := by decide +kernel
theorem d_Malike_96 : decode b_Malike 96 = .ok (.iconst 0, 1) := by decide +kernel
theorem d_Malike_97 : decode b_Malike 97 = .ok (.istore_n 3, 1) := by decide +kernel
theorem d_Malike_98 : decode b_Malike 98 = .ok (.iload_n 3, 1) := by decide +kernel
theorem d_Malike_99 : decode b_Malike 99 = .ok (.bipush 40, 2) := by decide +kernel
theorem d_Malike_101 : decode b_Malike 101 = .ok (.if_icmp .ge 21, 3) := by decide +kernel
theorem d_Malike_104 : decode b_Malike 104 = .ok (.aload_n 0, 1) := by decide +kernel
theorem d_Malike_105 : decode b_Malike 105 = .ok (.getfield 75, 3) := by decide +kernel
theorem d_Malike_108 : decode b_Malike 108 = .ok (.iload_n 3, 1) := by decide +kernel
theorem d_Malike_109 : decode b_Malike 109 = .ok (.aload_n 0, 1) := by decide +kernel
theorem d_Malike_110 : decode b_Malike 110 = .ok (.getfield 45, 3) := by decide +kernel
theorem d_Malike_113 : decode b_Malike 113 = .ok (.iload_n 3, 1) := by decide +kernel
theorem d_Malike_114 : decode b_Malike 114 = .ok (.baload, 1) := by decide +kernel
theorem d_Malike_115 : decode b_Malike 115 = .ok (.bastore, 1) := by decide +kernel
theorem d_Malike_116 : decode b_Malike 116 = .ok (.iinc 3 1, 3) := by decide +kernel
theorem d_Malike_119 : decode b_Malike 119 = .ok (.goto (-21), 3) := by decide +kernel
theorem d_Malike_122 : decode b_Malike 122 = .ok (.aload_n 0, 1) := by decide +kernel
theorem d_Malike_123 : decode b_Malike 123 = .ok (.iload_n 2, 1) := by decide +kernel
theorem d_Malike_124 : decode b_Malike 124 = .ok (.invokevirtual 162, 3) := by decide +kernel
theorem d_Malike_127 : decode b_Malike 127 = .ok (.iconst 0, 1) := by decide +kernel
theorem d_Malike_128 : decode b_Malike 128 = .ok (.istore_n 3, 1) := by decide +kernel
theorem d_Malike_129 : decode b_Malike 129 = .ok (.iload_n 3, 1) := by decide +kernel
theorem d_Malike_130 : decode b_Malike 130 = .ok (.bipush 40, 2) := by decide +kernel
theorem d_Malike_132 : decode b_Malike 132 = .ok (.if_icmp .ge 26, 3) := by decide +kernel
theorem d_Malike_135 : decode b_Malike 135 = .ok (.aload_n 0, 1) := by decide +kernel
theorem d_Malike_136 : decode b_Malike 136 = .ok (.getfield 75, 3) := by decide +kernel
theorem d_Malike_139 : decode b_Malike 139 = .ok (.iload_n 3, 1) := by decide +kernel
theorem d_Malike_140 : decode b_Malike 140 = .ok (.baload, 1) := by decide +kernel
theorem d_Malike_141 : decode b_Malike 141 = .ok (.aload_n 0, 1) := by decide +kernel
theorem d_Malike_142 : decode b_Malike 142 = .ok (.getfield 45, 3) := by decide +kernel
theorem d_Malike_145 : decode b_Malike 145 = .ok (.iload_n 3, 1) := by decide +kernel
theorem d_Malike_146 : decode b_Malike 146 = .ok (.baload, 1) := by decide +kernel
theorem d_Malike_147 : decode b_Malike 147 = .ok (.if_icmp .eq 5, 3) := by decide +kernel
theorem d_Malike_150 : decode b_Malike 150 = .ok (.iconst 0, 1) := by decide +kernel
theorem d_Malike_151 : decode b_Malike 151 = .ok (.ireturn, 1) := by decide +kernel
theorem d_Malike_152 : decode b_Malike 152 = .ok (.iinc 3 1, 3) := by decide +kernel
theorem d_Malike_155 : decode b_Malike 155 = .ok (.goto (-26), 3) := by decide +kernel
theorem d_Malike_158 : decode b_Malike 158 = .ok (.iconst 0, 1) := by decide +kernel
theorem d_Malike_159 : decode b_Malike 159 = .ok (.istore_n 3, 1) := by decide +kernel
theorem d_Malike_160 : decode b_Malike 160 = .ok (.iload_n 3, 1) := by decide +kernel
theorem d_Malike_161 : decode b_Malike 161 = .ok (.bipush 40, 2) := by decide +kernel
theorem d_Malike_163 : decode b_Malike 163 = .ok (.if_icmp .gt 75, 3) := by decide +kernel
theorem d_Malike_166 : decode b_Malike 166 = .ok (.aload_n 0, 1) := by decide +kernel
theorem d_Malike_167 : decode b_Malike 167 = .ok (.getfield 69, 3) := by decide +kernel
theorem d_Malike_170 : decode b_Malike 170 = .ok (.iload_n 3, 1) := by decide +kernel
theorem d_Malike_171 : decode b_Malike 171 = .ok (.iaload, 1) := by decide +kernel
theorem d_Malike_172 : decode b_Malike 172 = .ok (.aload_n 0, 1) := by decide +kernel
theorem d_Malike_173 : decode b_Malike 173 = .ok (.getfield 54, 3) := by decide +kernel
theorem d_Malike_176 : decode b_Malike 176 = .ok (.iload_n 3, 1) := by decide +kernel
theorem d_Malike_177 : decode b_Malike 177 = .ok (.iaload, 1) := by decide +kernel
theorem d_Malike_178 : decode b_Malike 178 = .ok (.if_icmp .eq 5, 3) := by decide +kernel
theorem d_Malike_181 : decode b_Malike 181 = .ok (.iconst 0, 1) := by decide +kernel
theorem d_Malike_182 : decode b_Malike 182 = .ok (.ireturn, 1) := by decide +kernel
theorem d_Malike_183 : decode b_Malike 183 = .ok (.iconst 0, 1) := by decide +kernel
theorem d_Malike_184 : decode b_Malike 184 = .ok (.istore 4, 2) := by decide +kernel
theorem d_Malike_186 : decode b_Malike 186 = .ok (.iload 4, 2) := by decide +kernel
theorem d_Malike_188 : decode b_Malike 188 = .ok (.aload_n 0, 1) := by decide +kernel
theorem d_Malike_189 : decode b_Malike 189 = .ok (.getfield 54, 3) := by decide +kernel
theorem d_Malike_192 : decode b_Malike 192 = .ok (.iload_n 3, 1) := by decide +kernel
theorem d_Malike_193 : decode b_Malike 193 = .ok (.iaload, 1) := by decide +kernel
theorem d_Malike_194 : decode b_Malike 194 = .ok (.if_icmp .ge 38, 3) := by decide +kernel
theorem d_Malike_197 : decode b_Malike 197 = .ok (.aload_n 0, 1) := by decide +kernel
theorem d_Malike_198 : decode b_Malike 198 = .ok (.getfield 72, 3) := by decide +kernel
theorem d_Malike_201 : decode b_Malike 201 = .ok (.bipush 40, 2) := by decide +kernel
theorem d_Malike_203 : decode b_Malike 203 = .ok (.iload_n 3, 1) := by decide +kernel
theorem d_Malike_204 : decode b_Malike 204 = .ok (.imul, 1) := by decide +kernel
theorem d_Malike_205 : decode b_Malike 205 = .ok (.iload 4, 2) := by decide +kernel
theorem d_Malike_207 : decode b_Malike 207 = .ok (.iadd, 1) := by decide +kernel
theorem d_Malike_208 : decode b_Malike 208 = .ok (.iaload, 1) := by decide +kernel
theorem d_Malike_209 : decode b_Malike 209 = .ok (.aload_n 0, 1) := by decide +kernel
theorem d_Malike_210 : decode b_Malike 210 = .ok (.getfield 57, 3) := by decide +kernel
theorem d_Malike_213 : decode b_Malike 213 = .ok (.bipush 40, 2) := by decide +kernel
theorem d_Malike_215 : decode b_Malike 215 = .ok (.iload_n 3, 1) := by decide +kernel
theorem d_Malike_216 : decode b_Malike 216 = .ok (.imul, 1) := by decide +kernel
theorem d_Malike_217 : decode b_Malike 217 = .ok (.iload 4, 2) := by decide +kernel
theorem d_Malike_219 : decode b_Malike 219 = .ok (.iadd, 1) := by decide +kernel
theorem d_Malike_220 : decode b_Malike 220 = .ok (.iaload, 1) := by decide +kernel
theorem d_Malike_221 : decode b_Malike 221 = .ok (.if_icmp .eq 5, 3) := by decide +kernel
theorem d_Malike_224 : decode b_Malike 224 = .ok (.iconst 0, 1) := by decide +kernel
theorem d_Malike_225 : decode b_Malike 225 = .ok (.ireturn, 1) := by decide +kernel
theorem d_Malike_226 : decode b_Malike 226 = .ok (.iinc 4 1, 3) := by decide +kernel
theorem d_Malike_229 : decode b_Malike 229 = .ok (.goto (-43), 3) := by decide +kernel
theorem d_Malike_232 : decode b_Malike 232 = .ok (.iinc 3 1, 3) := by decide +kernel
theorem d_Malike_235 : decode b_Malike 235 = .ok (.goto (-75), 3) := by decide +kernel
theorem d_Malike_238 : decode b_Malike 238 = .ok (.iconst 1, 1) := by decide +kernel
theorem d_Malike_239 : decode b_Malike 239 = .ok (.ireturn, 1) := by decide +kernel
theorem d_Mtotal_0 : decode b_Mtotal 0 = .ok (.aload_n 0, 1) := by decide +kernel
theorem d_Mtotal_1 : decode b_Mtotal 1 = .ok (.iconst 0, 1) := by decide +kernel
theorem d_Mtotal_2 : decode b_Mtotal 2 = .ok (.putfield 78, 3) := by decide +kernel
theorem d_Mtotal_5 : decode b_Mtotal 5 = .ok (.iload_n 1, 1) := by decide +kernel
theorem d_Mtotal_6 : decode b_Mtotal 6 = .ok (.bipush 10, 2) := by decide +kernel
theorem d_Mtotal_8 : decode b_Mtotal 8 = .ok (.irem, 1) := by decide +kernel
theorem d_Mtotal_9 : decode b_Mtotal 9 = .ok (.istore_n 2, 1) := by decide +kernel
theorem d_Mtotal_10 : decode b_Mtotal 10 = .ok (.iload_n 1, 1) := by decide +kernel
theorem d_Mtotal_11 : decode b_Mtotal 11 = .ok (.ifCond .ne 8, 3) := by decide +kernel
theorem d_Mtotal_14 : decode b_Mtotal 14 = .ok (.aload_n 0, 1) := by decide +kernel
theorem d_Mtotal_15 : decode b_Mtotal 15 = .ok (.getfield 81, 3) := by decide +kernel
theorem d_Mtotal_18 : decode b_Mtotal 18 = .ok (.ireturn, 1) := by decide +kernel
theorem d_Mtotal_19 : decode b_Mtotal 19 = .ok (.iload_n 1, 1) := by decide +kernel
theorem d_Mtotal_20 : decode b_Mtotal 20 = .ok (.iconst 1, 1) := by decide +kernel
theorem d_Mtotal_21 : decode b_Mtotal 21 = .ok (.if_icmp .ne 8, 3) := by decide +kernel
theorem d_Mtotal_24 : decode b_Mtotal 24 = .ok (.aload_n 0, 1) := by decide +kernel
theorem d_Mtotal_25 : decode b_Mtotal 25 = .ok (.getfield 28, 3) := by decide +kernel
theorem d_Mtotal_28 : decode b_Mtotal 28 = .ok (.ireturn, 1) := by decide +kernel
theorem d_Mtotal_29 : decode b_Mtotal 29 = .ok (.iload_n 1, 1) := by decide +kernel
theorem d_Mtotal_30 : decode b_Mtotal 30 = .ok (.bipush 10, 2) := by decide +kernel
theorem d_Mtotal_32 : decode b_Mtotal 32 = .ok (.if_icmp .lt 14, 3) := by decide +kernel
theorem d_Mtotal_35 : decode b_Mtotal 35 = .ok (.iload_n 1, 1) := by decide +kernel
theorem d_Mtotal_36 : decode b_Mtotal 36 = .ok (.bipush 43, 2) := by decide +kernel
theorem d_Mtotal_38 : decode b_Mtotal 38 = .ok (.if_icmp .gt 8, 3) := by decide +kernel
theorem d_Mtotal_41 : decode b_Mtotal 41 = .ok (.iload_n 2, 1) := by decide +kernel
theorem d_Mtotal_42 : decode b_Mtotal 42 = .ok (.iconst 3, 1) := by decide +kernel
theorem d_Mtotal_43 : decode b_Mtotal 43 = .ok (.if_icmp .le 5, 3) := by decide +kernel
theorem d_Mtotal_46 : decode b_Mtotal 46 = .ok (.iconst (-1), 1) := by decide +kernel
theorem d_Mtotal_47 : decode b_Mtotal 47 = .ok (.ireturn, 1) := by decide +kernel
theorem d_Mtotal_48 : decode b_Mtotal 48 = .ok (.iload_n 1, 1) := by decide +kernel
theorem d_Mtotal_49 : decode b_Mtotal 49 = .ok (.bipush 10, 2) := by decide +kernel
theorem d_Mtotal_51 : decode b_Mtotal 51 = .ok (.idiv, 1) := by decide +kernel
theorem d_Mtotal_52 : decode b_Mtotal 52 = .ok (.tableswitch 47 1 3 #[28, 34, 41], 28) := by decide +kernel
theorem d_Mtotal_80 : decode b_Mtotal 80 = .ok (.aload_n 0, 1) := by decide +kernel
theorem d_Mtotal_81 : decode b_Mtotal 81 = .ok (.iload_n 2, 1) := by decide +kernel
theorem d_Mtotal_82 : decode b_Mtotal 82 = .ok (.invokevirtual 171, 3) := by decide +kernel
theorem d_Mtotal_85 : decode b_Mtotal 85 = .ok (.ireturn, 1) := by decide +kernel
theorem d_Mtotal_86 : decode b_Mtotal 86 = .ok (.aload_n 0, 1) := by decide +kernel
theorem d_Mtotal_87 : decode b_Mtotal 87 = .ok (.getfield 36, 3) := by decide +kernel
theorem d_Mtotal_90 : decode b_Mtotal 90 = .ok (.iload_n 2, 1) := by decide +kernel
theorem d_Mtotal_91 : decode b_Mtotal 91 = .ok (.iaload, 1) := by decide +kernel
theorem d_Mtotal_92 : decode b_Mtotal 92 = .ok (.ireturn, 1) := by decide +kernel
theorem d_Mtotal_93 : decode b_Mtotal 93 = .ok (.aload_n 0, 1) := by decide +kernel
theorem d_Mtotal_94 : decode b_Mtotal 94 = .ok (.iload_n 2, 1) := by decide +kernel
theorem d_Mtotal_95 : decode b_Mtotal 95 = .ok (.invokevirtual 174, 3) := by decide +kernel
theorem d_Mtotal_98 : decode b_Mtotal 98 = .ok (.ireturn, 1) := by decide +kernel
theorem d_Mtotal_99 : decode b_Mtotal 99 = .ok (.aload_n 0, 1) := by decide +kernel
theorem d_Mtotal_100 : decode b_Mtotal 100 = .ok (.iload_n 2, 1) := by decide +kernel
theorem d_Mtotal_101 : decode b_Mtotal 101 = .ok (.invokevirtual 177, 3) := by decide +kernel
theorem d_Mtotal_104 : decode b_Mtotal 104 = .ok (.ireturn, 1) := by decide +kernel
theorem d_MknownRows_0 : decode b_MknownRows 0 = .ok (.iconst 0, 1) := by decide +kernel
theorem d_MknownRows_1 : decode b_MknownRows 1 = .ok (.istore_n 2, 1) := by decide +kernel
theorem d_MknownRows_2 : decode b_MknownRows 2 = .ok (.iconst 1, 1) := by decide +kernel
theorem d_MknownRows_3 : decode b_MknownRows 3 = .ok (.istore_n 3, 1) := by decide +kernel
theorem d_MknownRows_4 : decode b_MknownRows 4 = .ok (.iload_n 3, 1) := by decide +kernel
theorem d_MknownRows_5 : decode b_MknownRows 5 = .ok (.aload_n 0, 1) := by decide +kernel
theorem d_MknownRows_6 : decode b_MknownRows 6 = .ok (.getfield 81, 3) := by decide +kernel
theorem d_MknownRows_9 : decode b_MknownRows 9 = .ok (.if_icmp .gt 26, 3) := by decide +kernel
theorem d_MknownRows_12 : decode b_MknownRows 12 = .ok (.iload_n 2, 1) := by decide +kernel
theorem d_MknownRows_13 : decode b_MknownRows 13 = .ok (.aload_n 0, 1) := by decide +kernel
theorem d_MknownRows_14 : decode b_MknownRows 14 = .ok (.iload_n 1, 1) := by decide +kernel
theorem d_MknownRows_15 : decode b_MknownRows 15 = .ok (.iload_n 3, 1) := by decide +kernel
theorem d_MknownRows_16 : decode b_MknownRows 16 = .ok (.invokevirtual 84, 3) := by decide +kernel
theorem d_MknownRows_19 : decode b_MknownRows 19 = .ok (.ifCond .eq 7, 3) := by decide +kernel
theorem d_MknownRows_22 : decode b_MknownRows 22 = .ok (.iconst 1, 1) := by decide +kernel
theorem d_MknownRows_23 : decode b_MknownRows 23 = .ok (.goto 4, 3) := by decide +kernel
theorem d_MknownRows_26 : decode b_MknownRows 26 = .ok (.iconst 0, 1) := by decide +kernel
theorem d_MknownRows_27 : decode b_MknownRows 27 = .ok (.iadd, 1) := by decide +kernel
theorem d_MknownRows_28 : decode b_MknownRows 28 = .ok (.istore_n 2, 1) := by decide +kernel
theorem d_MknownRows_29 : decode b_MknownRows 29 = .ok (.iinc 3 1, 3) := by decide +kernel
theorem d_MknownRows_32 : decode b_MknownRows 32 = .ok (.goto (-28), 3) := by decide +kernel
theorem d_MknownRows_35 : decode b_MknownRows 35 = .ok (.iload_n 2, 1) := by decide +kernel
theorem d_MknownRows_36 : decode b_MknownRows 36 = .ok (.ireturn, 1) := by decide +kernel
theorem d_MthereOf_0 : decode b_MthereOf 0 = .ok (.aload_n 0, 1) := by decide +kernel
theorem d_MthereOf_1 : decode b_MthereOf 1 = .ok (.iload_n 1, 1) := by decide +kernel
theorem d_MthereOf_2 : decode b_MthereOf 2 = .ok (.invokevirtual 162, 3) := by decide +kernel
theorem d_MthereOf_5 : decode b_MthereOf 5 = .ok (.iconst 0, 1) := by decide +kernel
theorem d_MthereOf_6 : decode b_MthereOf 6 = .ok (.istore_n 2, 1) := by decide +kernel
theorem d_MthereOf_7 : decode b_MthereOf 7 = .ok (.iconst 0, 1) := by decide +kernel
theorem d_MthereOf_8 : decode b_MthereOf 8 = .ok (.istore_n 3, 1) := by decide +kernel
theorem d_MthereOf_9 : decode b_MthereOf 9 = .ok (.iload_n 3, 1) := by decide +kernel
theorem d_MthereOf_10 : decode b_MthereOf 10 = .ok (.bipush 40, 2) := by decide +kernel
theorem d_MthereOf_12 : decode b_MthereOf 12 = .ok (.if_icmp .ge 26, 3) := by decide +kernel
theorem d_MthereOf_15 : decode b_MthereOf 15 = .ok (.iload_n 2, 1) := by decide +kernel
theorem d_MthereOf_16 : decode b_MthereOf 16 = .ok (.aload_n 0, 1) := by decide +kernel
theorem d_MthereOf_17 : decode b_MthereOf 17 = .ok (.getfield 45, 3) := by decide +kernel
theorem d_MthereOf_20 : decode b_MthereOf 20 = .ok (.iload_n 3, 1) := by decide +kernel
theorem d_MthereOf_21 : decode b_MthereOf 21 = .ok (.baload, 1) := by decide +kernel
theorem d_MthereOf_22 : decode b_MthereOf 22 = .ok (.ifCond .eq 7, 3) := by decide +kernel
theorem d_MthereOf_25 : decode b_MthereOf 25 = .ok (.iconst 1, 1) := by decide +kernel
theorem d_MthereOf_26 : decode b_MthereOf 26 = .ok (.goto 4, 3) := by decide +kernel
theorem d_MthereOf_29 : decode b_MthereOf 29 = .ok (.iconst 0, 1) := by decide +kernel
theorem d_MthereOf_30 : decode b_MthereOf 30 = .ok (.iadd, 1) := by decide +kernel
theorem d_MthereOf_31 : decode b_MthereOf 31 = .ok (.istore_n 2, 1) := by decide +kernel
theorem d_MthereOf_32 : decode b_MthereOf 32 = .ok (.iinc 3 1, 3) := by decide +kernel
theorem d_MthereOf_35 : decode b_MthereOf 35 = .ok (.goto (-26), 3) := by decide +kernel
theorem d_MthereOf_38 : decode b_MthereOf 38 = .ok (.iload_n 2, 1) := by decide +kernel
theorem d_MthereOf_39 : decode b_MthereOf 39 = .ok (.ireturn, 1) := by decide +kernel
theorem d_MbinOf_0 : decode b_MbinOf 0 = .ok (.aload_n 0, 1) := by decide +kernel
theorem d_MbinOf_1 : decode b_MbinOf 1 = .ok (.iload_n 1, 1) := by decide +kernel
theorem d_MbinOf_2 : decode b_MbinOf 2 = .ok (.invokevirtual 162, 3) := by decide +kernel
theorem d_MbinOf_5 : decode b_MbinOf 5 = .ok (.aload_n 0, 1) := by decide +kernel
theorem d_MbinOf_6 : decode b_MbinOf 6 = .ok (.getfield 54, 3) := by decide +kernel
theorem d_MbinOf_9 : decode b_MbinOf 9 = .ok (.bipush 40, 2) := by decide +kernel
theorem d_MbinOf_11 : decode b_MbinOf 11 = .ok (.iaload, 1) := by decide +kernel
theorem d_MbinOf_12 : decode b_MbinOf 12 = .ok (.ireturn, 1) := by decide +kernel
