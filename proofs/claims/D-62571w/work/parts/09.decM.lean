theorem d_Mo_init_0 : decode Y_Mo_init.2.1 0 = .ok (.aload_n 0, 1) := by decide +kernel
theorem d_Mo_init_1 : decode Y_Mo_init.2.1 1 = .ok (.invokespecial 1, 3) := by decide +kernel
theorem d_Mo_init_4 : decode Y_Mo_init.2.1 4 = .ok (.aload_n 0, 1) := by decide +kernel
theorem d_Mo_init_5 : decode Y_Mo_init.2.1 5 = .ok (.bipush 10, 2) := by decide +kernel
theorem d_Mo_init_7 : decode Y_Mo_init.2.1 7 = .ok (.newarray .int, 2) := by decide +kernel
theorem d_Mo_init_9 : decode Y_Mo_init.2.1 9 = .ok (.putfield 7, 3) := by decide +kernel
theorem d_Mo_init_12 : decode Y_Mo_init.2.1 12 = .ok (.aload_n 0, 1) := by decide +kernel
theorem d_Mo_init_13 : decode Y_Mo_init.2.1 13 = .ok (.bipush 10, 2) := by decide +kernel
theorem d_Mo_init_15 : decode Y_Mo_init.2.1 15 = .ok (.newarray .int, 2) := by decide +kernel
theorem d_Mo_init_17 : decode Y_Mo_init.2.1 17 = .ok (.putfield 13, 3) := by decide +kernel
theorem d_Mo_init_20 : decode Y_Mo_init.2.1 20 = .ok (.aload_n 0, 1) := by decide +kernel
theorem d_Mo_init_21 : decode Y_Mo_init.2.1 21 = .ok (.bipush 30, 2) := by decide +kernel
theorem d_Mo_init_23 : decode Y_Mo_init.2.1 23 = .ok (.newarray .int, 2) := by decide +kernel
theorem d_Mo_init_25 : decode Y_Mo_init.2.1 25 = .ok (.putfield 16, 3) := by decide +kernel
theorem d_Mo_init_28 : decode Y_Mo_init.2.1 28 = .ok (.aload_n 0, 1) := by decide +kernel
theorem d_Mo_init_29 : decode Y_Mo_init.2.1 29 = .ok (.bipush 12, 2) := by decide +kernel
theorem d_Mo_init_31 : decode Y_Mo_init.2.1 31 = .ok (.newarray .int, 2) := by decide +kernel
theorem d_Mo_init_33 : decode Y_Mo_init.2.1 33 = .ok (.putfield 19, 3) := by decide +kernel
theorem d_Mo_init_36 : decode Y_Mo_init.2.1 36 = .ok (.aload_n 0, 1) := by decide +kernel
theorem d_Mo_init_37 : decode Y_Mo_init.2.1 37 = .ok (.sipush 7436, 3) := by decide +kernel
theorem d_Mo_init_40 : decode Y_Mo_init.2.1 40 = .ok (.newarray .boolean, 2) := by decide +kernel
theorem d_Mo_init_42 : decode Y_Mo_init.2.1 42 = .ok (.putfield 22, 3) := by decide +kernel
theorem d_Mo_init_45 : decode Y_Mo_init.2.1 45 = .ok (.aload_n 0, 1) := by decide +kernel
theorem d_Mo_init_46 : decode Y_Mo_init.2.1 46 = .ok (.sipush 845, 3) := by decide +kernel
theorem d_Mo_init_49 : decode Y_Mo_init.2.1 49 = .ok (.newarray .boolean, 2) := by decide +kernel
theorem d_Mo_init_51 : decode Y_Mo_init.2.1 51 = .ok (.putfield 26, 3) := by decide +kernel
theorem d_Mo_init_54 : decode Y_Mo_init.2.1 54 = .ok (.aload_n 0, 1) := by decide +kernel
theorem d_Mo_init_55 : decode Y_Mo_init.2.1 55 = .ok (.sipush 845, 3) := by decide +kernel
theorem d_Mo_init_58 : decode Y_Mo_init.2.1 58 = .ok (.newarray .boolean, 2) := by decide +kernel
theorem d_Mo_init_60 : decode Y_Mo_init.2.1 60 = .ok (.putfield 29, 3) := by decide +kernel
theorem d_Mo_init_63 : decode Y_Mo_init.2.1 63 = .ok (.aload_n 0, 1) := by decide +kernel
theorem d_Mo_init_64 : decode Y_Mo_init.2.1 64 = .ok (.sipush 845, 3) := by decide +kernel
theorem d_Mo_init_67 : decode Y_Mo_init.2.1 67 = .ok (.newarray .long, 2) := by decide +kernel
theorem d_Mo_init_69 : decode Y_Mo_init.2.1 69 = .ok (.putfield 32, 3) := by decide +kernel
theorem d_Mo_init_72 : decode Y_Mo_init.2.1 72 = .ok (.aload_n 0, 1) := by decide +kernel
theorem d_Mo_init_73 : decode Y_Mo_init.2.1 73 = .ok (.sipush 845, 3) := by decide +kernel
theorem d_Mo_init_76 : decode Y_Mo_init.2.1 76 = .ok (.newarray .boolean, 2) := by decide +kernel
theorem d_Mo_init_78 : decode Y_Mo_init.2.1 78 = .ok (.putfield 36, 3) := by decide +kernel
theorem d_Mo_init_81 : decode Y_Mo_init.2.1 81 = .ok (.aload_n 0, 1) := by decide +kernel
theorem d_Mo_init_82 : decode Y_Mo_init.2.1 82 = .ok (.sipush 900, 3) := by decide +kernel
theorem d_Mo_init_85 : decode Y_Mo_init.2.1 85 = .ok (.newarray .int, 2) := by decide +kernel
theorem d_Mo_init_87 : decode Y_Mo_init.2.1 87 = .ok (.putfield 39, 3) := by decide +kernel
theorem d_Mo_init_90 : decode Y_Mo_init.2.1 90 = .ok (.aload_n 0, 1) := by decide +kernel
theorem d_Mo_init_91 : decode Y_Mo_init.2.1 91 = .ok (.sipush 900, 3) := by decide +kernel
theorem d_Mo_init_94 : decode Y_Mo_init.2.1 94 = .ok (.newarray .long, 2) := by decide +kernel
theorem d_Mo_init_96 : decode Y_Mo_init.2.1 96 = .ok (.putfield 42, 3) := by decide +kernel
theorem d_Mo_init_99 : decode Y_Mo_init.2.1 99 = .ok (.aload_n 0, 1) := by decide +kernel
theorem d_Mo_init_100 : decode Y_Mo_init.2.1 100 = .ok (.iload_n 1, 1) := by decide +kernel
theorem d_Mo_init_101 : decode Y_Mo_init.2.1 101 = .ok (.ifCond .eq 7, 3) := by decide +kernel
theorem d_Mo_init_104 : decode Y_Mo_init.2.1 104 = .ok (.iconst 1, 1) := by decide +kernel
theorem d_Mo_init_105 : decode Y_Mo_init.2.1 105 = .ok (.goto 4, 3) := by decide +kernel
theorem d_Mo_init_108 : decode Y_Mo_init.2.1 108 = .ok (.iconst 0, 1) := by decide +kernel
theorem d_Mo_init_109 : decode Y_Mo_init.2.1 109 = .ok (.putfield 45, 3) := by decide +kernel
theorem d_Mo_init_112 : decode Y_Mo_init.2.1 112 = .ok (.aload_n 0, 1) := by decide +kernel
theorem d_Mo_init_113 : decode Y_Mo_init.2.1 113 = .ok (.iconst 0, 1) := by decide +kernel
theorem d_Mo_init_114 : decode Y_Mo_init.2.1 114 = .ok (.invokevirtual 49, 3) := by decide +kernel
theorem d_Mo_init_117 : decode Y_Mo_init.2.1 117 = .ok (.return_, 1) := by decide +kernel
theorem d_Mo_makeSet_0 : decode Y_Mo_makeSet.2.1 0 = .ok (.aload_n 0, 1) := by decide +kernel
theorem d_Mo_makeSet_1 : decode Y_Mo_makeSet.2.1 1 = .ok (.iconst 0, 1) := by decide +kernel
theorem d_Mo_makeSet_2 : decode Y_Mo_makeSet.2.1 2 = .ok (.putfield 85, 3) := by decide +kernel
theorem d_Mo_makeSet_5 : decode Y_Mo_makeSet.2.1 5 = .ok (.iconst 0, 1) := by decide +kernel
theorem d_Mo_makeSet_6 : decode Y_Mo_makeSet.2.1 6 = .ok (.istore_n 2, 1) := by decide +kernel
theorem d_Mo_makeSet_7 : decode Y_Mo_makeSet.2.1 7 = .ok (.iload_n 2, 1) := by decide +kernel
theorem d_Mo_makeSet_8 : decode Y_Mo_makeSet.2.1 8 = .ok (.sipush 572, 3) := by decide +kernel
theorem d_Mo_makeSet_11 : decode Y_Mo_makeSet.2.1 11 = .ok (.if_icmp .ge 22, 3) := by decide +kernel
theorem d_Mo_makeSet_14 : decode Y_Mo_makeSet.2.1 14 = .ok (.aload_n 0, 1) := by decide +kernel
theorem d_Mo_makeSet_15 : decode Y_Mo_makeSet.2.1 15 = .ok (.getfield 22, 3) := by decide +kernel
theorem d_Mo_makeSet_18 : decode Y_Mo_makeSet.2.1 18 = .ok (.sipush 572, 3) := by decide +kernel
theorem d_Mo_makeSet_21 : decode Y_Mo_makeSet.2.1 21 = .ok (.iload_n 1, 1) := by decide +kernel
theorem d_Mo_makeSet_22 : decode Y_Mo_makeSet.2.1 22 = .ok (.imul, 1) := by decide +kernel
theorem d_Mo_makeSet_23 : decode Y_Mo_makeSet.2.1 23 = .ok (.iload_n 2, 1) := by decide +kernel
theorem d_Mo_makeSet_24 : decode Y_Mo_makeSet.2.1 24 = .ok (.iadd, 1) := by decide +kernel
theorem d_Mo_makeSet_25 : decode Y_Mo_makeSet.2.1 25 = .ok (.iconst 0, 1) := by decide +kernel
theorem d_Mo_makeSet_26 : decode Y_Mo_makeSet.2.1 26 = .ok (.bastore, 1) := by decide +kernel
theorem d_Mo_makeSet_27 : decode Y_Mo_makeSet.2.1 27 = .ok (.iinc 2 1, 3) := by decide +kernel
theorem d_Mo_makeSet_30 : decode Y_Mo_makeSet.2.1 30 = .ok (.goto (-23), 3) := by decide +kernel
theorem d_Mo_makeSet_33 : decode Y_Mo_makeSet.2.1 33 = .ok (.iload_n 1, 1) := by decide +kernel
theorem d_Mo_makeSet_34 : decode Y_Mo_makeSet.2.1 34 = .ok (.ifCond .ne 10, 3) := by decide +kernel
theorem d_Mo_makeSet_37 : decode Y_Mo_makeSet.2.1 37 = .ok (.aload_n 0, 1) := by decide +kernel
theorem d_Mo_makeSet_38 : decode Y_Mo_makeSet.2.1 38 = .ok (.getfield 22, 3) := by decide +kernel
theorem d_Mo_makeSet_41 : decode Y_Mo_makeSet.2.1 41 = .ok (.iconst 0, 1) := by decide +kernel
theorem d_Mo_makeSet_42 : decode Y_Mo_makeSet.2.1 42 = .ok (.iconst 1, 1) := by decide +kernel
theorem d_Mo_makeSet_43 : decode Y_Mo_makeSet.2.1 43 = .ok (.bastore, 1) := by decide +kernel
theorem d_Mo_makeSet_44 : decode Y_Mo_makeSet.2.1 44 = .ok (.iconst 0, 1) := by decide +kernel
theorem d_Mo_makeSet_45 : decode Y_Mo_makeSet.2.1 45 = .ok (.istore_n 2, 1) := by decide +kernel
theorem d_Mo_makeSet_46 : decode Y_Mo_makeSet.2.1 46 = .ok (.iload_n 2, 1) := by decide +kernel
theorem d_Mo_makeSet_47 : decode Y_Mo_makeSet.2.1 47 = .ok (.sipush 572, 3) := by decide +kernel
theorem d_Mo_makeSet_50 : decode Y_Mo_makeSet.2.1 50 = .ok (.if_icmp .ge 84, 3) := by decide +kernel
theorem d_Mo_makeSet_53 : decode Y_Mo_makeSet.2.1 53 = .ok (.iload_n 1, 1) := by decide +kernel
theorem d_Mo_makeSet_54 : decode Y_Mo_makeSet.2.1 54 = .ok (.ifCond .le 80, 3) := by decide +kernel
theorem d_Mo_makeSet_57 : decode Y_Mo_makeSet.2.1 57 = .ok (.aload_n 0, 1) := by decide +kernel
theorem d_Mo_makeSet_58 : decode Y_Mo_makeSet.2.1 58 = .ok (.getfield 22, 3) := by decide +kernel
theorem d_Mo_makeSet_61 : decode Y_Mo_makeSet.2.1 61 = .ok (.sipush 572, 3) := by decide +kernel
theorem d_Mo_makeSet_64 : decode Y_Mo_makeSet.2.1 64 = .ok (.iload_n 1, 1) := by decide +kernel
theorem d_Mo_makeSet_65 : decode Y_Mo_makeSet.2.1 65 = .ok (.iconst 1, 1) := by decide +kernel
theorem d_Mo_makeSet_66 : decode Y_Mo_makeSet.2.1 66 = .ok (.isub, 1) := by decide +kernel
theorem d_Mo_makeSet_67 : decode Y_Mo_makeSet.2.1 67 = .ok (.imul, 1) := by decide +kernel
theorem d_Mo_makeSet_68 : decode Y_Mo_makeSet.2.1 68 = .ok (.iload_n 2, 1) := by decide +kernel
theorem d_Mo_makeSet_69 : decode Y_Mo_makeSet.2.1 69 = .ok (.iadd, 1) := by decide +kernel
theorem d_Mo_makeSet_70 : decode Y_Mo_makeSet.2.1 70 = .ok (.baload, 1) := by decide +kernel
theorem d_Mo_makeSet_71 : decode Y_Mo_makeSet.2.1 71 = .ok (.ifCond .eq 35, 3) := by decide +kernel
theorem d_Mo_makeSet_74 : decode Y_Mo_makeSet.2.1 74 = .ok (.aload_n 0, 1) := by decide +kernel
theorem d_Mo_makeSet_75 : decode Y_Mo_makeSet.2.1 75 = .ok (.iload_n 2, 1) := by decide +kernel
theorem d_Mo_makeSet_76 : decode Y_Mo_makeSet.2.1 76 = .ok (.bipush 52, 2) := by decide +kernel
theorem d_Mo_makeSet_78 : decode Y_Mo_makeSet.2.1 78 = .ok (.idiv, 1) := by decide +kernel
theorem d_Mo_makeSet_79 : decode Y_Mo_makeSet.2.1 79 = .ok (.iconst 1, 1) := by decide +kernel
theorem d_Mo_makeSet_80 : decode Y_Mo_makeSet.2.1 80 = .ok (.isub, 1) := by decide +kernel
theorem d_Mo_makeSet_81 : decode Y_Mo_makeSet.2.1 81 = .ok (.iload_n 2, 1) := by decide +kernel
theorem d_Mo_makeSet_82 : decode Y_Mo_makeSet.2.1 82 = .ok (.bipush 52, 2) := by decide +kernel
theorem d_Mo_makeSet_84 : decode Y_Mo_makeSet.2.1 84 = .ok (.irem, 1) := by decide +kernel
theorem d_Mo_makeSet_85 : decode Y_Mo_makeSet.2.1 85 = .ok (.bipush 13, 2) := by decide +kernel
theorem d_Mo_makeSet_87 : decode Y_Mo_makeSet.2.1 87 = .ok (.idiv, 1) := by decide +kernel
theorem d_Mo_makeSet_88 : decode Y_Mo_makeSet.2.1 88 = .ok (.invokevirtual 65, 3) := by decide +kernel
theorem d_Mo_makeSet_91 : decode Y_Mo_makeSet.2.1 91 = .ok (.aload_n 0, 1) := by decide +kernel
theorem d_Mo_makeSet_92 : decode Y_Mo_makeSet.2.1 92 = .ok (.getfield 19, 3) := by decide +kernel
theorem d_Mo_makeSet_95 : decode Y_Mo_makeSet.2.1 95 = .ok (.iload_n 1, 1) := by decide +kernel
theorem d_Mo_makeSet_96 : decode Y_Mo_makeSet.2.1 96 = .ok (.iconst 1, 1) := by decide +kernel
theorem d_Mo_makeSet_97 : decode Y_Mo_makeSet.2.1 97 = .ok (.isub, 1) := by decide +kernel
theorem d_Mo_makeSet_98 : decode Y_Mo_makeSet.2.1 98 = .ok (.iaload, 1) := by decide +kernel
theorem d_Mo_makeSet_99 : decode Y_Mo_makeSet.2.1 99 = .ok (.if_icmp .ne 7, 3) := by decide +kernel
theorem d_Mo_makeSet_102 : decode Y_Mo_makeSet.2.1 102 = .ok (.iconst 1, 1) := by decide +kernel
theorem d_Mo_makeSet_103 : decode Y_Mo_makeSet.2.1 103 = .ok (.goto 4, 3) := by decide +kernel
theorem d_Mo_makeSet_106 : decode Y_Mo_makeSet.2.1 106 = .ok (.iconst 0, 1) := by decide +kernel
theorem d_Mo_makeSet_107 : decode Y_Mo_makeSet.2.1 107 = .ok (.istore_n 3, 1) := by decide +kernel
theorem d_Mo_makeSet_108 : decode Y_Mo_makeSet.2.1 108 = .ok (.iload_n 3, 1) := by decide +kernel
theorem d_Mo_makeSet_109 : decode Y_Mo_makeSet.2.1 109 = .ok (.ifCond .eq 19, 3) := by decide +kernel
theorem d_Mo_makeSet_112 : decode Y_Mo_makeSet.2.1 112 = .ok (.aload_n 0, 1) := by decide +kernel
theorem d_Mo_makeSet_113 : decode Y_Mo_makeSet.2.1 113 = .ok (.getfield 22, 3) := by decide +kernel
theorem d_Mo_makeSet_116 : decode Y_Mo_makeSet.2.1 116 = .ok (.sipush 572, 3) := by decide +kernel
theorem d_Mo_makeSet_119 : decode Y_Mo_makeSet.2.1 119 = .ok (.iload_n 1, 1) := by decide +kernel
theorem d_Mo_makeSet_120 : decode Y_Mo_makeSet.2.1 120 = .ok (.imul, 1) := by decide +kernel
theorem d_Mo_makeSet_121 : decode Y_Mo_makeSet.2.1 121 = .ok (.iload_n 2, 1) := by decide +kernel
theorem d_Mo_makeSet_122 : decode Y_Mo_makeSet.2.1 122 = .ok (.iadd, 1) := by decide +kernel
theorem d_Mo_makeSet_123 : decode Y_Mo_makeSet.2.1 123 = .ok (.bipush 13, 2) := by decide +kernel
theorem d_Mo_makeSet_125 : decode Y_Mo_makeSet.2.1 125 = .ok (.iadd, 1) := by decide +kernel
theorem d_Mo_makeSet_126 : decode Y_Mo_makeSet.2.1 126 = .ok (.iconst 1, 1) := by decide +kernel
theorem d_Mo_makeSet_127 : decode Y_Mo_makeSet.2.1 127 = .ok (.bastore, 1) := by decide +kernel
theorem d_Mo_makeSet_128 : decode Y_Mo_makeSet.2.1 128 = .ok (.iinc 2 1, 3) := by decide +kernel
theorem d_Mo_makeSet_131 : decode Y_Mo_makeSet.2.1 131 = .ok (.goto (-85), 3) := by decide +kernel
theorem d_Mo_makeSet_134 : decode Y_Mo_makeSet.2.1 134 = .ok (.aload_n 0, 1) := by decide +kernel
theorem d_Mo_makeSet_135 : decode Y_Mo_makeSet.2.1 135 = .ok (.iload_n 1, 1) := by decide +kernel
theorem d_Mo_makeSet_136 : decode Y_Mo_makeSet.2.1 136 = .ok (.invokevirtual 88, 3) := by decide +kernel
theorem d_Mo_makeSet_139 : decode Y_Mo_makeSet.2.1 139 = .ok (.return_, 1) := by decide +kernel
theorem d_Mo_behind_0 : decode Y_Mo_behind.2.1 0 = .ok (.iload_n 2, 1) := by decide +kernel
theorem d_Mo_behind_1 : decode Y_Mo_behind.2.1 1 = .ok (.aload_n 0, 1) := by decide +kernel
theorem d_Mo_behind_2 : decode Y_Mo_behind.2.1 2 = .ok (.iload_n 1, 1) := by decide +kernel
theorem d_Mo_behind_3 : decode Y_Mo_behind.2.1 3 = .ok (.invokevirtual 57, 3) := by decide +kernel
theorem d_Mo_behind_6 : decode Y_Mo_behind.2.1 6 = .ok (.if_icmp .lt 7, 3) := by decide +kernel
theorem d_Mo_behind_9 : decode Y_Mo_behind.2.1 9 = .ok (.iconst (-1), 1) := by decide +kernel
theorem d_Mo_behind_10 : decode Y_Mo_behind.2.1 10 = .ok (.goto 21, 3) := by decide +kernel
theorem d_Mo_behind_13 : decode Y_Mo_behind.2.1 13 = .ok (.iload_n 1, 1) := by decide +kernel
theorem d_Mo_behind_14 : decode Y_Mo_behind.2.1 14 = .ok (.ifCond .ge 7, 3) := by decide +kernel
theorem d_Mo_behind_17 : decode Y_Mo_behind.2.1 17 = .ok (.iconst 0, 1) := by decide +kernel
theorem d_Mo_behind_18 : decode Y_Mo_behind.2.1 18 = .ok (.goto 13, 3) := by decide +kernel
theorem d_Mo_behind_21 : decode Y_Mo_behind.2.1 21 = .ok (.aload_n 0, 1) := by decide +kernel
theorem d_Mo_behind_22 : decode Y_Mo_behind.2.1 22 = .ok (.getfield 16, 3) := by decide +kernel
theorem d_Mo_behind_25 : decode Y_Mo_behind.2.1 25 = .ok (.iconst 3, 1) := by decide +kernel
theorem d_Mo_behind_26 : decode Y_Mo_behind.2.1 26 = .ok (.iload_n 1, 1) := by decide +kernel
theorem d_Mo_behind_27 : decode Y_Mo_behind.2.1 27 = .ok (.imul, 1) := by decide +kernel
theorem d_Mo_behind_28 : decode Y_Mo_behind.2.1 28 = .ok (.iload_n 2, 1) := by decide +kernel
theorem d_Mo_behind_29 : decode Y_Mo_behind.2.1 29 = .ok (.iadd, 1) := by decide +kernel
theorem d_Mo_behind_30 : decode Y_Mo_behind.2.1 30 = .ok (.iaload, 1) := by decide +kernel
theorem d_Mo_behind_31 : decode Y_Mo_behind.2.1 31 = .ok (.ireturn, 1) := by decide +kernel
theorem d_Mo_lengthOf_0 : decode Y_Mo_lengthOf.2.1 0 = .ok (.iload_n 1, 1) := by decide +kernel
theorem d_Mo_lengthOf_1 : decode Y_Mo_lengthOf.2.1 1 = .ok (.ifCond .ge 7, 3) := by decide +kernel
theorem d_Mo_lengthOf_4 : decode Y_Mo_lengthOf.2.1 4 = .ok (.iconst 1, 1) := by decide +kernel
theorem d_Mo_lengthOf_5 : decode Y_Mo_lengthOf.2.1 5 = .ok (.goto 9, 3) := by decide +kernel
theorem d_Mo_lengthOf_8 : decode Y_Mo_lengthOf.2.1 8 = .ok (.aload_n 0, 1) := by decide +kernel
theorem d_Mo_lengthOf_9 : decode Y_Mo_lengthOf.2.1 9 = .ok (.getfield 13, 3) := by decide +kernel
theorem d_Mo_lengthOf_12 : decode Y_Mo_lengthOf.2.1 12 = .ok (.iload_n 1, 1) := by decide +kernel
theorem d_Mo_lengthOf_13 : decode Y_Mo_lengthOf.2.1 13 = .ok (.iaload, 1) := by decide +kernel
theorem d_Mo_lengthOf_14 : decode Y_Mo_lengthOf.2.1 14 = .ok (.ireturn, 1) := by decide +kernel
theorem d_Mo_close_0 : decode Y_Mo_close.2.1 0 = .ok (.iconst 1, 1) := by decide +kernel
theorem d_Mo_close_1 : decode Y_Mo_close.2.1 1 = .ok (.istore_n 2, 1) := by decide +kernel
theorem d_Mo_close_2 : decode Y_Mo_close.2.1 2 = .ok (.iload_n 2, 1) := by decide +kernel
theorem d_Mo_close_3 : decode Y_Mo_close.2.1 3 = .ok (.ifCond .eq 77, 3) := by decide +kernel
theorem d_Mo_close_6 : decode Y_Mo_close.2.1 6 = .ok (.iconst 0, 1) := by decide +kernel
theorem d_Mo_close_7 : decode Y_Mo_close.2.1 7 = .ok (.istore_n 2, 1) := by decide +kernel
theorem d_Mo_close_8 : decode Y_Mo_close.2.1 8 = .ok (.iconst 0, 1) := by decide +kernel
theorem d_Mo_close_9 : decode Y_Mo_close.2.1 9 = .ok (.istore_n 3, 1) := by decide +kernel
theorem d_Mo_close_10 : decode Y_Mo_close.2.1 10 = .ok (.iload_n 3, 1) := by decide +kernel
theorem d_Mo_close_11 : decode Y_Mo_close.2.1 11 = .ok (.sipush 572, 3) := by decide +kernel
theorem d_Mo_close_14 : decode Y_Mo_close.2.1 14 = .ok (.if_icmp .ge 63, 3) := by decide +kernel
theorem d_Mo_close_17 : decode Y_Mo_close.2.1 17 = .ok (.aload_n 0, 1) := by decide +kernel
theorem d_Mo_close_18 : decode Y_Mo_close.2.1 18 = .ok (.getfield 22, 3) := by decide +kernel
theorem d_Mo_close_21 : decode Y_Mo_close.2.1 21 = .ok (.sipush 572, 3) := by decide +kernel
theorem d_Mo_close_24 : decode Y_Mo_close.2.1 24 = .ok (.iload_n 1, 1) := by decide +kernel
theorem d_Mo_close_25 : decode Y_Mo_close.2.1 25 = .ok (.imul, 1) := by decide +kernel
theorem d_Mo_close_26 : decode Y_Mo_close.2.1 26 = .ok (.iload_n 3, 1) := by decide +kernel
theorem d_Mo_close_27 : decode Y_Mo_close.2.1 27 = .ok (.iadd, 1) := by decide +kernel
theorem d_Mo_close_28 : decode Y_Mo_close.2.1 28 = .ok (.baload, 1) := by decide +kernel
theorem d_Mo_close_29 : decode Y_Mo_close.2.1 29 = .ok (.ifCond .eq 42, 3) := by decide +kernel
theorem d_Mo_close_32 : decode Y_Mo_close.2.1 32 = .ok (.aload_n 0, 1) := by decide +kernel
theorem d_Mo_close_33 : decode Y_Mo_close.2.1 33 = .ok (.iload_n 1, 1) := by decide +kernel
theorem d_Mo_close_34 : decode Y_Mo_close.2.1 34 = .ok (.iload_n 3, 1) := by decide +kernel
theorem d_Mo_close_35 : decode Y_Mo_close.2.1 35 = .ok (.bipush 52, 2) := by decide +kernel
theorem d_Mo_close_37 : decode Y_Mo_close.2.1 37 = .ok (.idiv, 1) := by decide +kernel
theorem d_Mo_close_38 : decode Y_Mo_close.2.1 38 = .ok (.iconst 1, 1) := by decide +kernel
theorem d_Mo_close_39 : decode Y_Mo_close.2.1 39 = .ok (.isub, 1) := by decide +kernel
theorem d_Mo_close_40 : decode Y_Mo_close.2.1 40 = .ok (.iload_n 3, 1) := by decide +kernel
theorem d_Mo_close_41 : decode Y_Mo_close.2.1 41 = .ok (.bipush 52, 2) := by decide +kernel
theorem d_Mo_close_43 : decode Y_Mo_close.2.1 43 = .ok (.irem, 1) := by decide +kernel
theorem d_Mo_close_44 : decode Y_Mo_close.2.1 44 = .ok (.bipush 13, 2) := by decide +kernel
theorem d_Mo_close_46 : decode Y_Mo_close.2.1 46 = .ok (.idiv, 1) := by decide +kernel
theorem d_Mo_close_47 : decode Y_Mo_close.2.1 47 = .ok (.iload_n 3, 1) := by decide +kernel
theorem d_Mo_close_48 : decode Y_Mo_close.2.1 48 = .ok (.bipush 13, 2) := by decide +kernel
theorem d_Mo_close_50 : decode Y_Mo_close.2.1 50 = .ok (.irem, 1) := by decide +kernel
theorem d_Mo_close_51 : decode Y_Mo_close.2.1 51 = .ok (.invokevirtual 82, 3) := by decide +kernel
theorem d_Mo_close_54 : decode Y_Mo_close.2.1 54 = .ok (.istore 4, 2) := by decide +kernel
theorem d_Mo_close_56 : decode Y_Mo_close.2.1 56 = .ok (.iload_n 2, 1) := by decide +kernel
theorem d_Mo_close_57 : decode Y_Mo_close.2.1 57 = .ok (.ifCond .ne 8, 3) := by decide +kernel
theorem d_Mo_close_60 : decode Y_Mo_close.2.1 60 = .ok (.iload 4, 2) := by decide +kernel
theorem d_Mo_close_62 : decode Y_Mo_close.2.1 62 = .ok (.ifCond .le 7, 3) := by decide +kernel
theorem d_Mo_close_65 : decode Y_Mo_close.2.1 65 = .ok (.iconst 1, 1) := by decide +kernel
theorem d_Mo_close_66 : decode Y_Mo_close.2.1 66 = .ok (.goto 4, 3) := by decide +kernel
theorem d_Mo_close_69 : decode Y_Mo_close.2.1 69 = .ok (.iconst 0, 1) := by decide +kernel
theorem d_Mo_close_70 : decode Y_Mo_close.2.1 70 = .ok (.istore_n 2, 1) := by decide +kernel
theorem d_Mo_close_71 : decode Y_Mo_close.2.1 71 = .ok (.iinc 3 1, 3) := by decide +kernel
theorem d_Mo_close_74 : decode Y_Mo_close.2.1 74 = .ok (.goto (-64), 3) := by decide +kernel
theorem d_Mo_close_77 : decode Y_Mo_close.2.1 77 = .ok (.goto (-75), 3) := by decide +kernel
theorem d_Mo_close_80 : decode Y_Mo_close.2.1 80 = .ok (.return_, 1) := by decide +kernel
theorem d_Mo_follow_0 : decode Y_Mo_follow.2.1 0 = .ok (.aload_n 0, 1) := by decide +kernel
theorem d_Mo_follow_1 : decode Y_Mo_follow.2.1 1 = .ok (.iload_n 2, 1) := by decide +kernel
theorem d_Mo_follow_2 : decode Y_Mo_follow.2.1 2 = .ok (.iload_n 3, 1) := by decide +kernel
theorem d_Mo_follow_3 : decode Y_Mo_follow.2.1 3 = .ok (.invokevirtual 65, 3) := by decide +kernel
theorem d_Mo_follow_6 : decode Y_Mo_follow.2.1 6 = .ok (.istore 5, 2) := by decide +kernel
theorem d_Mo_follow_8 : decode Y_Mo_follow.2.1 8 = .ok (.iconst 0, 1) := by decide +kernel
theorem d_Mo_follow_9 : decode Y_Mo_follow.2.1 9 = .ok (.istore 6, 2) := by decide +kernel
theorem d_Mo_follow_11 : decode Y_Mo_follow.2.1 11 = .ok (.iload 5, 2) := by decide +kernel
theorem d_Mo_follow_13 : decode Y_Mo_follow.2.1 13 = .ok (.invokestatic 69, 3) := by decide +kernel
theorem d_Mo_follow_16 : decode Y_Mo_follow.2.1 16 = .ok (.ifCond .eq 51, 3) := by decide +kernel
theorem d_Mo_follow_19 : decode Y_Mo_follow.2.1 19 = .ok (.iconst 0, 1) := by decide +kernel
theorem d_Mo_follow_20 : decode Y_Mo_follow.2.1 20 = .ok (.istore 7, 2) := by decide +kernel
theorem d_Mo_follow_22 : decode Y_Mo_follow.2.1 22 = .ok (.iload 7, 2) := by decide +kernel
theorem d_Mo_follow_24 : decode Y_Mo_follow.2.1 24 = .ok (.aload_n 0, 1) := by decide +kernel
theorem d_Mo_follow_25 : decode Y_Mo_follow.2.1 25 = .ok (.getfield 73, 3) := by decide +kernel
theorem d_Mo_follow_28 : decode Y_Mo_follow.2.1 28 = .ok (.if_icmp .ge 39, 3) := by decide +kernel
theorem d_Mo_follow_31 : decode Y_Mo_follow.2.1 31 = .ok (.iload 6, 2) := by decide +kernel
theorem d_Mo_follow_33 : decode Y_Mo_follow.2.1 33 = .ok (.aload_n 0, 1) := by decide +kernel
theorem d_Mo_follow_34 : decode Y_Mo_follow.2.1 34 = .ok (.getfield 7, 3) := by decide +kernel
theorem d_Mo_follow_37 : decode Y_Mo_follow.2.1 37 = .ok (.iload 7, 2) := by decide +kernel
theorem d_Mo_follow_39 : decode Y_Mo_follow.2.1 39 = .ok (.iaload, 1) := by decide +kernel
theorem d_Mo_follow_40 : decode Y_Mo_follow.2.1 40 = .ok (.iload 5, 2) := by decide +kernel
theorem d_Mo_follow_42 : decode Y_Mo_follow.2.1 42 = .ok (.if_icmp .ne 15, 3) := by decide +kernel
theorem d_Mo_follow_45 : decode Y_Mo_follow.2.1 45 = .ok (.aload_n 0, 1) := by decide +kernel
theorem d_Mo_follow_46 : decode Y_Mo_follow.2.1 46 = .ok (.iload_n 1, 1) := by decide +kernel
theorem d_Mo_follow_47 : decode Y_Mo_follow.2.1 47 = .ok (.iload 7, 2) := by decide +kernel
theorem d_Mo_follow_49 : decode Y_Mo_follow.2.1 49 = .ok (.iconst 0, 1) := by decide +kernel
theorem d_Mo_follow_50 : decode Y_Mo_follow.2.1 50 = .ok (.iload_n 1, 1) := by decide +kernel
theorem d_Mo_follow_51 : decode Y_Mo_follow.2.1 51 = .ok (.invokevirtual 76, 3) := by decide +kernel
theorem d_Mo_follow_54 : decode Y_Mo_follow.2.1 54 = .ok (.goto 4, 3) := by decide +kernel
theorem d_Mo_follow_57 : decode Y_Mo_follow.2.1 57 = .ok (.iconst 0, 1) := by decide +kernel
theorem d_Mo_follow_58 : decode Y_Mo_follow.2.1 58 = .ok (.iadd, 1) := by decide +kernel
theorem d_Mo_follow_59 : decode Y_Mo_follow.2.1 59 = .ok (.istore 6, 2) := by decide +kernel
theorem d_Mo_follow_61 : decode Y_Mo_follow.2.1 61 = .ok (.iinc 7 1, 3) := by decide +kernel
theorem d_Mo_follow_64 : decode Y_Mo_follow.2.1 64 = .ok (.goto (-42), 3) := by decide +kernel
theorem d_Mo_follow_67 : decode Y_Mo_follow.2.1 67 = .ok (.iload 5, 2) := by decide +kernel
theorem d_Mo_follow_69 : decode Y_Mo_follow.2.1 69 = .ok (.ifCond .ge 7, 3) := by decide +kernel
theorem d_Mo_follow_72 : decode Y_Mo_follow.2.1 72 = .ok (.iload_n 2, 1) := by decide +kernel
theorem d_Mo_follow_73 : decode Y_Mo_follow.2.1 73 = .ok (.ifCond .ge 6, 3) := by decide +kernel
theorem d_Mo_follow_76 : decode Y_Mo_follow.2.1 76 = .ok (.iload 6, 2) := by decide +kernel
theorem d_Mo_follow_78 : decode Y_Mo_follow.2.1 78 = .ok (.ireturn, 1) := by decide +kernel
theorem d_Mo_follow_79 : decode Y_Mo_follow.2.1 79 = .ok (.aload_n 0, 1) := by decide +kernel
theorem d_Mo_follow_80 : decode Y_Mo_follow.2.1 80 = .ok (.getfield 45, 3) := by decide +kernel
theorem d_Mo_follow_83 : decode Y_Mo_follow.2.1 83 = .ok (.ifCond .eq 24, 3) := by decide +kernel
theorem d_Mo_follow_86 : decode Y_Mo_follow.2.1 86 = .ok (.iload 4, 2) := by decide +kernel
theorem d_Mo_follow_88 : decode Y_Mo_follow.2.1 88 = .ok (.iload_n 1, 1) := by decide +kernel
theorem d_Mo_follow_89 : decode Y_Mo_follow.2.1 89 = .ok (.if_icmp .ge 18, 3) := by decide +kernel
theorem d_Mo_follow_92 : decode Y_Mo_follow.2.1 92 = .ok (.aload_n 0, 1) := by decide +kernel
theorem d_Mo_follow_93 : decode Y_Mo_follow.2.1 93 = .ok (.iload 4, 2) := by decide +kernel
theorem d_Mo_follow_95 : decode Y_Mo_follow.2.1 95 = .ok (.aload_n 0, 1) := by decide +kernel
theorem d_Mo_follow_96 : decode Y_Mo_follow.2.1 96 = .ok (.getfield 7, 3) := by decide +kernel
theorem d_Mo_follow_99 : decode Y_Mo_follow.2.1 99 = .ok (.iload_n 2, 1) := by decide +kernel
theorem d_Mo_follow_100 : decode Y_Mo_follow.2.1 100 = .ok (.iaload, 1) := by decide +kernel
theorem d_Mo_follow_101 : decode Y_Mo_follow.2.1 101 = .ok (.invokevirtual 79, 3) := by decide +kernel
theorem d_Mo_follow_104 : decode Y_Mo_follow.2.1 104 = .ok (.goto 4, 3) := by decide +kernel
theorem d_Mo_follow_107 : decode Y_Mo_follow.2.1 107 = .ok (.iconst (-1), 1) := by decide +kernel
theorem d_Mo_follow_108 : decode Y_Mo_follow.2.1 108 = .ok (.istore 7, 2) := by decide +kernel
theorem d_Mo_follow_110 : decode Y_Mo_follow.2.1 110 = .ok (.iload 7, 2) := by decide +kernel
theorem d_Mo_follow_112 : decode Y_Mo_follow.2.1 112 = .ok (.ifCond .lt 32, 3) := by decide +kernel
theorem d_Mo_follow_115 : decode Y_Mo_follow.2.1 115 = .ok (.iload 6, 2) := by decide +kernel
theorem d_Mo_follow_117 : decode Y_Mo_follow.2.1 117 = .ok (.aload_n 0, 1) := by decide +kernel
theorem d_Mo_follow_118 : decode Y_Mo_follow.2.1 118 = .ok (.iload_n 1, 1) := by decide +kernel
theorem d_Mo_follow_119 : decode Y_Mo_follow.2.1 119 = .ok (.iload 7, 2) := by decide +kernel
theorem d_Mo_follow_121 : decode Y_Mo_follow.2.1 121 = .ok (.bipush 52, 2) := by decide +kernel
theorem d_Mo_follow_123 : decode Y_Mo_follow.2.1 123 = .ok (.idiv, 1) := by decide +kernel
theorem d_Mo_follow_124 : decode Y_Mo_follow.2.1 124 = .ok (.iconst 1, 1) := by decide +kernel
theorem d_Mo_follow_125 : decode Y_Mo_follow.2.1 125 = .ok (.isub, 1) := by decide +kernel
theorem d_Mo_follow_126 : decode Y_Mo_follow.2.1 126 = .ok (.iload 7, 2) := by decide +kernel
theorem d_Mo_follow_128 : decode Y_Mo_follow.2.1 128 = .ok (.bipush 52, 2) := by decide +kernel
theorem d_Mo_follow_130 : decode Y_Mo_follow.2.1 130 = .ok (.irem, 1) := by decide +kernel
theorem d_Mo_follow_131 : decode Y_Mo_follow.2.1 131 = .ok (.bipush 13, 2) := by decide +kernel
theorem d_Mo_follow_133 : decode Y_Mo_follow.2.1 133 = .ok (.idiv, 1) := by decide +kernel
theorem d_Mo_follow_134 : decode Y_Mo_follow.2.1 134 = .ok (.iload 7, 2) := by decide +kernel
theorem d_Mo_follow_136 : decode Y_Mo_follow.2.1 136 = .ok (.bipush 13, 2) := by decide +kernel
theorem d_Mo_follow_138 : decode Y_Mo_follow.2.1 138 = .ok (.irem, 1) := by decide +kernel
theorem d_Mo_follow_139 : decode Y_Mo_follow.2.1 139 = .ok (.invokevirtual 76, 3) := by decide +kernel
theorem d_Mo_follow_142 : decode Y_Mo_follow.2.1 142 = .ok (.iadd, 1) := by decide +kernel
theorem d_Mo_follow_143 : decode Y_Mo_follow.2.1 143 = .ok (.ireturn, 1) := by decide +kernel
theorem d_Mo_follow_144 : decode Y_Mo_follow.2.1 144 = .ok (.iconst 0, 1) := by decide +kernel
theorem d_Mo_follow_145 : decode Y_Mo_follow.2.1 145 = .ok (.istore 8, 2) := by decide +kernel
theorem d_Mo_follow_147 : decode Y_Mo_follow.2.1 147 = .ok (.iload 8, 2) := by decide +kernel
theorem d_Mo_follow_149 : decode Y_Mo_follow.2.1 149 = .ok (.sipush 572, 3) := by decide +kernel
theorem d_Mo_follow_152 : decode Y_Mo_follow.2.1 152 = .ok (.if_icmp .ge 86, 3) := by decide +kernel
theorem d_Mo_follow_155 : decode Y_Mo_follow.2.1 155 = .ok (.aload_n 0, 1) := by decide +kernel
theorem d_Mo_follow_156 : decode Y_Mo_follow.2.1 156 = .ok (.getfield 22, 3) := by decide +kernel
theorem d_Mo_follow_159 : decode Y_Mo_follow.2.1 159 = .ok (.sipush 572, 3) := by decide +kernel
theorem d_Mo_follow_162 : decode Y_Mo_follow.2.1 162 = .ok (.iload 4, 2) := by decide +kernel
theorem d_Mo_follow_164 : decode Y_Mo_follow.2.1 164 = .ok (.imul, 1) := by decide +kernel
theorem d_Mo_follow_165 : decode Y_Mo_follow.2.1 165 = .ok (.iload 8, 2) := by decide +kernel
theorem d_Mo_follow_167 : decode Y_Mo_follow.2.1 167 = .ok (.iadd, 1) := by decide +kernel
theorem d_Mo_follow_168 : decode Y_Mo_follow.2.1 168 = .ok (.baload, 1) := by decide +kernel
theorem d_Mo_follow_169 : decode Y_Mo_follow.2.1 169 = .ok (.ifCond .eq 63, 3) := by decide +kernel
theorem d_Mo_follow_172 : decode Y_Mo_follow.2.1 172 = .ok (.aload_n 0, 1) := by decide +kernel
theorem d_Mo_follow_173 : decode Y_Mo_follow.2.1 173 = .ok (.iload 8, 2) := by decide +kernel
theorem d_Mo_follow_175 : decode Y_Mo_follow.2.1 175 = .ok (.bipush 52, 2) := by decide +kernel
theorem d_Mo_follow_177 : decode Y_Mo_follow.2.1 177 = .ok (.idiv, 1) := by decide +kernel
theorem d_Mo_follow_178 : decode Y_Mo_follow.2.1 178 = .ok (.iconst 1, 1) := by decide +kernel
theorem d_Mo_follow_179 : decode Y_Mo_follow.2.1 179 = .ok (.isub, 1) := by decide +kernel
theorem d_Mo_follow_180 : decode Y_Mo_follow.2.1 180 = .ok (.iload 8, 2) := by decide +kernel
theorem d_Mo_follow_182 : decode Y_Mo_follow.2.1 182 = .ok (.bipush 52, 2) := by decide +kernel
theorem d_Mo_follow_184 : decode Y_Mo_follow.2.1 184 = .ok (.irem, 1) := by decide +kernel
theorem d_Mo_follow_185 : decode Y_Mo_follow.2.1 185 = .ok (.bipush 13, 2) := by decide +kernel
theorem d_Mo_follow_187 : decode Y_Mo_follow.2.1 187 = .ok (.idiv, 1) := by decide +kernel
theorem d_Mo_follow_188 : decode Y_Mo_follow.2.1 188 = .ok (.invokevirtual 65, 3) := by decide +kernel
theorem d_Mo_follow_191 : decode Y_Mo_follow.2.1 191 = .ok (.aload_n 0, 1) := by decide +kernel
theorem d_Mo_follow_192 : decode Y_Mo_follow.2.1 192 = .ok (.getfield 7, 3) := by decide +kernel
theorem d_Mo_follow_195 : decode Y_Mo_follow.2.1 195 = .ok (.iload_n 2, 1) := by decide +kernel
theorem d_Mo_follow_196 : decode Y_Mo_follow.2.1 196 = .ok (.iaload, 1) := by decide +kernel
theorem d_Mo_follow_197 : decode Y_Mo_follow.2.1 197 = .ok (.if_icmp .ne 35, 3) := by decide +kernel
theorem d_Mo_follow_200 : decode Y_Mo_follow.2.1 200 = .ok (.iload 6, 2) := by decide +kernel
theorem d_Mo_follow_202 : decode Y_Mo_follow.2.1 202 = .ok (.aload_n 0, 1) := by decide +kernel
theorem d_Mo_follow_203 : decode Y_Mo_follow.2.1 203 = .ok (.iload_n 1, 1) := by decide +kernel
theorem d_Mo_follow_204 : decode Y_Mo_follow.2.1 204 = .ok (.iload 8, 2) := by decide +kernel
theorem d_Mo_follow_206 : decode Y_Mo_follow.2.1 206 = .ok (.bipush 52, 2) := by decide +kernel
theorem d_Mo_follow_208 : decode Y_Mo_follow.2.1 208 = .ok (.idiv, 1) := by decide +kernel
theorem d_Mo_follow_209 : decode Y_Mo_follow.2.1 209 = .ok (.iconst 1, 1) := by decide +kernel
theorem d_Mo_follow_210 : decode Y_Mo_follow.2.1 210 = .ok (.isub, 1) := by decide +kernel
theorem d_Mo_follow_211 : decode Y_Mo_follow.2.1 211 = .ok (.iload 8, 2) := by decide +kernel
theorem d_Mo_follow_213 : decode Y_Mo_follow.2.1 213 = .ok (.bipush 52, 2) := by decide +kernel
theorem d_Mo_follow_215 : decode Y_Mo_follow.2.1 215 = .ok (.irem, 1) := by decide +kernel
theorem d_Mo_follow_216 : decode Y_Mo_follow.2.1 216 = .ok (.bipush 13, 2) := by decide +kernel
theorem d_Mo_follow_218 : decode Y_Mo_follow.2.1 218 = .ok (.idiv, 1) := by decide +kernel
theorem d_Mo_follow_219 : decode Y_Mo_follow.2.1 219 = .ok (.iconst 1, 1) := by decide +kernel
theorem d_Mo_follow_220 : decode Y_Mo_follow.2.1 220 = .ok (.iadd, 1) := by decide +kernel
theorem d_Mo_follow_221 : decode Y_Mo_follow.2.1 221 = .ok (.iload 8, 2) := by decide +kernel
theorem d_Mo_follow_223 : decode Y_Mo_follow.2.1 223 = .ok (.bipush 13, 2) := by decide +kernel
theorem d_Mo_follow_225 : decode Y_Mo_follow.2.1 225 = .ok (.irem, 1) := by decide +kernel
theorem d_Mo_follow_226 : decode Y_Mo_follow.2.1 226 = .ok (.invokevirtual 76, 3) := by decide +kernel
theorem d_Mo_follow_229 : decode Y_Mo_follow.2.1 229 = .ok (.iadd, 1) := by decide +kernel
theorem d_Mo_follow_230 : decode Y_Mo_follow.2.1 230 = .ok (.istore 6, 2) := by decide +kernel
theorem d_Mo_follow_232 : decode Y_Mo_follow.2.1 232 = .ok (.iinc 8 1, 3) := by decide +kernel
theorem d_Mo_follow_235 : decode Y_Mo_follow.2.1 235 = .ok (.goto (-88), 3) := by decide +kernel
theorem d_Mo_follow_238 : decode Y_Mo_follow.2.1 238 = .ok (.iload 6, 2) := by decide +kernel
theorem d_Mo_follow_240 : decode Y_Mo_follow.2.1 240 = .ok (.ireturn, 1) := by decide +kernel
theorem d_Mo_isNonterminal_0 : decode Y_Mo_isNonterminal.2.1 0 = .ok (.iload_n 0, 1) := by decide +kernel
theorem d_Mo_isNonterminal_1 : decode Y_Mo_isNonterminal.2.1 1 = .ok (.ifCond .lt 12, 3) := by decide +kernel
theorem d_Mo_isNonterminal_4 : decode Y_Mo_isNonterminal.2.1 4 = .ok (.iload_n 0, 1) := by decide +kernel
theorem d_Mo_isNonterminal_5 : decode Y_Mo_isNonterminal.2.1 5 = .ok (.iconst 4, 1) := by decide +kernel
theorem d_Mo_isNonterminal_6 : decode Y_Mo_isNonterminal.2.1 6 = .ok (.if_icmp .gt 7, 3) := by decide +kernel
theorem d_Mo_isNonterminal_9 : decode Y_Mo_isNonterminal.2.1 9 = .ok (.iconst 1, 1) := by decide +kernel
theorem d_Mo_isNonterminal_10 : decode Y_Mo_isNonterminal.2.1 10 = .ok (.goto 4, 3) := by decide +kernel
theorem d_Mo_isNonterminal_13 : decode Y_Mo_isNonterminal.2.1 13 = .ok (.iconst 0, 1) := by decide +kernel
theorem d_Mo_isNonterminal_14 : decode Y_Mo_isNonterminal.2.1 14 = .ok (.ireturn, 1) := by decide +kernel
theorem d_Mo_add_0 : decode Y_Mo_add.2.1 0 = .ok (.iload_n 1, 1) := by decide +kernel
theorem d_Mo_add_1 : decode Y_Mo_add.2.1 1 = .ok (.iload_n 2, 1) := by decide +kernel
theorem d_Mo_add_2 : decode Y_Mo_add.2.1 2 = .ok (.iload_n 3, 1) := by decide +kernel
theorem d_Mo_add_3 : decode Y_Mo_add.2.1 3 = .ok (.iload 4, 2) := by decide +kernel
theorem d_Mo_add_5 : decode Y_Mo_add.2.1 5 = .ok (.invokestatic 61, 3) := by decide +kernel
theorem d_Mo_add_8 : decode Y_Mo_add.2.1 8 = .ok (.istore 5, 2) := by decide +kernel
theorem d_Mo_add_10 : decode Y_Mo_add.2.1 10 = .ok (.aload_n 0, 1) := by decide +kernel
theorem d_Mo_add_11 : decode Y_Mo_add.2.1 11 = .ok (.getfield 22, 3) := by decide +kernel
theorem d_Mo_add_14 : decode Y_Mo_add.2.1 14 = .ok (.iload 5, 2) := by decide +kernel
theorem d_Mo_add_16 : decode Y_Mo_add.2.1 16 = .ok (.baload, 1) := by decide +kernel
theorem d_Mo_add_17 : decode Y_Mo_add.2.1 17 = .ok (.ifCond .eq 5, 3) := by decide +kernel
theorem d_Mo_add_20 : decode Y_Mo_add.2.1 20 = .ok (.iconst 0, 1) := by decide +kernel
theorem d_Mo_add_21 : decode Y_Mo_add.2.1 21 = .ok (.ireturn, 1) := by decide +kernel
theorem d_Mo_add_22 : decode Y_Mo_add.2.1 22 = .ok (.aload_n 0, 1) := by decide +kernel
theorem d_Mo_add_23 : decode Y_Mo_add.2.1 23 = .ok (.getfield 22, 3) := by decide +kernel
theorem d_Mo_add_26 : decode Y_Mo_add.2.1 26 = .ok (.iload 5, 2) := by decide +kernel
theorem d_Mo_add_28 : decode Y_Mo_add.2.1 28 = .ok (.iconst 1, 1) := by decide +kernel
theorem d_Mo_add_29 : decode Y_Mo_add.2.1 29 = .ok (.bastore, 1) := by decide +kernel
theorem d_Mo_add_30 : decode Y_Mo_add.2.1 30 = .ok (.iconst 1, 1) := by decide +kernel
theorem d_Mo_add_31 : decode Y_Mo_add.2.1 31 = .ok (.ireturn, 1) := by decide +kernel
theorem d_Mo_place_0 : decode Y_Mo_place.2.1 0 = .ok (.sipush 572, 3) := by decide +kernel
theorem d_Mo_place_3 : decode Y_Mo_place.2.1 3 = .ok (.iload_n 0, 1) := by decide +kernel
theorem d_Mo_place_4 : decode Y_Mo_place.2.1 4 = .ok (.imul, 1) := by decide +kernel
theorem d_Mo_place_5 : decode Y_Mo_place.2.1 5 = .ok (.bipush 52, 2) := by decide +kernel
theorem d_Mo_place_7 : decode Y_Mo_place.2.1 7 = .ok (.iload_n 1, 1) := by decide +kernel
theorem d_Mo_place_8 : decode Y_Mo_place.2.1 8 = .ok (.iconst 1, 1) := by decide +kernel
theorem d_Mo_place_9 : decode Y_Mo_place.2.1 9 = .ok (.iadd, 1) := by decide +kernel
theorem d_Mo_place_10 : decode Y_Mo_place.2.1 10 = .ok (.imul, 1) := by decide +kernel
theorem d_Mo_place_11 : decode Y_Mo_place.2.1 11 = .ok (.iadd, 1) := by decide +kernel
theorem d_Mo_place_12 : decode Y_Mo_place.2.1 12 = .ok (.bipush 13, 2) := by decide +kernel
theorem d_Mo_place_14 : decode Y_Mo_place.2.1 14 = .ok (.iload_n 2, 1) := by decide +kernel
theorem d_Mo_place_15 : decode Y_Mo_place.2.1 15 = .ok (.imul, 1) := by decide +kernel
theorem d_Mo_place_16 : decode Y_Mo_place.2.1 16 = .ok (.iadd, 1) := by decide +kernel
theorem d_Mo_place_17 : decode Y_Mo_place.2.1 17 = .ok (.iload_n 3, 1) := by decide +kernel
theorem d_Mo_place_18 : decode Y_Mo_place.2.1 18 = .ok (.iadd, 1) := by decide +kernel
theorem d_Mo_place_19 : decode Y_Mo_place.2.1 19 = .ok (.ireturn, 1) := by decide +kernel
theorem d_Mo_leapOf_0 : decode Y_Mo_leapOf.2.1 0 = .ok (.iconst (-1), 1) := by decide +kernel
theorem d_Mo_leapOf_1 : decode Y_Mo_leapOf.2.1 1 = .ok (.istore_n 3, 1) := by decide +kernel
theorem d_Mo_leapOf_2 : decode Y_Mo_leapOf.2.1 2 = .ok (.iload_n 1, 1) := by decide +kernel
theorem d_Mo_leapOf_3 : decode Y_Mo_leapOf.2.1 3 = .ok (.istore 4, 2) := by decide +kernel
theorem d_Mo_leapOf_5 : decode Y_Mo_leapOf.2.1 5 = .ok (.iload_n 2, 1) := by decide +kernel
theorem d_Mo_leapOf_6 : decode Y_Mo_leapOf.2.1 6 = .ok (.istore 5, 2) := by decide +kernel
theorem d_Mo_leapOf_8 : decode Y_Mo_leapOf.2.1 8 = .ok (.iload 4, 2) := by decide +kernel
theorem d_Mo_leapOf_10 : decode Y_Mo_leapOf.2.1 10 = .ok (.ifCond .lt 181, 3) := by decide +kernel
theorem d_Mo_leapOf_13 : decode Y_Mo_leapOf.2.1 13 = .ok (.iconst 0, 1) := by decide +kernel
theorem d_Mo_leapOf_14 : decode Y_Mo_leapOf.2.1 14 = .ok (.istore 6, 2) := by decide +kernel
theorem d_Mo_leapOf_16 : decode Y_Mo_leapOf.2.1 16 = .ok (.iconst 0, 1) := by decide +kernel
theorem d_Mo_leapOf_17 : decode Y_Mo_leapOf.2.1 17 = .ok (.istore 7, 2) := by decide +kernel
theorem d_Mo_leapOf_19 : decode Y_Mo_leapOf.2.1 19 = .ok (.iconst 0, 1) := by decide +kernel
theorem d_Mo_leapOf_20 : decode Y_Mo_leapOf.2.1 20 = .ok (.istore 8, 2) := by decide +kernel
theorem d_Mo_leapOf_22 : decode Y_Mo_leapOf.2.1 22 = .ok (.iload 8, 2) := by decide +kernel
theorem d_Mo_leapOf_24 : decode Y_Mo_leapOf.2.1 24 = .ok (.sipush 572, 3) := by decide +kernel
theorem d_Mo_leapOf_27 : decode Y_Mo_leapOf.2.1 27 = .ok (.if_icmp .ge 57, 3) := by decide +kernel
theorem d_Mo_leapOf_30 : decode Y_Mo_leapOf.2.1 30 = .ok (.aload_n 0, 1) := by decide +kernel
theorem d_Mo_leapOf_31 : decode Y_Mo_leapOf.2.1 31 = .ok (.getfield 22, 3) := by decide +kernel
theorem d_Mo_leapOf_34 : decode Y_Mo_leapOf.2.1 34 = .ok (.sipush 572, 3) := by decide +kernel
theorem d_Mo_leapOf_37 : decode Y_Mo_leapOf.2.1 37 = .ok (.iload 4, 2) := by decide +kernel
theorem d_Mo_leapOf_39 : decode Y_Mo_leapOf.2.1 39 = .ok (.imul, 1) := by decide +kernel
theorem d_Mo_leapOf_40 : decode Y_Mo_leapOf.2.1 40 = .ok (.iload 8, 2) := by decide +kernel
theorem d_Mo_leapOf_42 : decode Y_Mo_leapOf.2.1 42 = .ok (.iadd, 1) := by decide +kernel
theorem d_Mo_leapOf_43 : decode Y_Mo_leapOf.2.1 43 = .ok (.baload, 1) := by decide +kernel
theorem d_Mo_leapOf_44 : decode Y_Mo_leapOf.2.1 44 = .ok (.ifCond .eq 34, 3) := by decide +kernel
theorem d_Mo_leapOf_47 : decode Y_Mo_leapOf.2.1 47 = .ok (.aload_n 0, 1) := by decide +kernel
theorem d_Mo_leapOf_48 : decode Y_Mo_leapOf.2.1 48 = .ok (.iload 8, 2) := by decide +kernel
theorem d_Mo_leapOf_50 : decode Y_Mo_leapOf.2.1 50 = .ok (.bipush 52, 2) := by decide +kernel
theorem d_Mo_leapOf_52 : decode Y_Mo_leapOf.2.1 52 = .ok (.idiv, 1) := by decide +kernel
theorem d_Mo_leapOf_53 : decode Y_Mo_leapOf.2.1 53 = .ok (.iconst 1, 1) := by decide +kernel
theorem d_Mo_leapOf_54 : decode Y_Mo_leapOf.2.1 54 = .ok (.isub, 1) := by decide +kernel
theorem d_Mo_leapOf_55 : decode Y_Mo_leapOf.2.1 55 = .ok (.iload 8, 2) := by decide +kernel
theorem d_Mo_leapOf_57 : decode Y_Mo_leapOf.2.1 57 = .ok (.bipush 52, 2) := by decide +kernel
theorem d_Mo_leapOf_59 : decode Y_Mo_leapOf.2.1 59 = .ok (.irem, 1) := by decide +kernel
theorem d_Mo_leapOf_60 : decode Y_Mo_leapOf.2.1 60 = .ok (.bipush 13, 2) := by decide +kernel
theorem d_Mo_leapOf_62 : decode Y_Mo_leapOf.2.1 62 = .ok (.idiv, 1) := by decide +kernel
theorem d_Mo_leapOf_63 : decode Y_Mo_leapOf.2.1 63 = .ok (.invokevirtual 65, 3) := by decide +kernel
theorem d_Mo_leapOf_66 : decode Y_Mo_leapOf.2.1 66 = .ok (.iload 5, 2) := by decide +kernel
theorem d_Mo_leapOf_68 : decode Y_Mo_leapOf.2.1 68 = .ok (.if_icmp .ne 10, 3) := by decide +kernel
theorem d_Mo_leapOf_71 : decode Y_Mo_leapOf.2.1 71 = .ok (.iinc 6 1, 3) := by decide +kernel
theorem d_Mo_leapOf_74 : decode Y_Mo_leapOf.2.1 74 = .ok (.iload 8, 2) := by decide +kernel
theorem d_Mo_leapOf_76 : decode Y_Mo_leapOf.2.1 76 = .ok (.istore 7, 2) := by decide +kernel
theorem d_Mo_leapOf_78 : decode Y_Mo_leapOf.2.1 78 = .ok (.iinc 8 1, 3) := by decide +kernel
theorem d_Mo_leapOf_81 : decode Y_Mo_leapOf.2.1 81 = .ok (.goto (-59), 3) := by decide +kernel
theorem d_Mo_leapOf_84 : decode Y_Mo_leapOf.2.1 84 = .ok (.iload 7, 2) := by decide +kernel
theorem d_Mo_leapOf_86 : decode Y_Mo_leapOf.2.1 86 = .ok (.bipush 52, 2) := by decide +kernel
theorem d_Mo_leapOf_88 : decode Y_Mo_leapOf.2.1 88 = .ok (.idiv, 1) := by decide +kernel
theorem d_Mo_leapOf_89 : decode Y_Mo_leapOf.2.1 89 = .ok (.iconst 1, 1) := by decide +kernel
theorem d_Mo_leapOf_90 : decode Y_Mo_leapOf.2.1 90 = .ok (.isub, 1) := by decide +kernel
theorem d_Mo_leapOf_91 : decode Y_Mo_leapOf.2.1 91 = .ok (.istore 8, 2) := by decide +kernel
theorem d_Mo_leapOf_93 : decode Y_Mo_leapOf.2.1 93 = .ok (.iload 7, 2) := by decide +kernel
theorem d_Mo_leapOf_95 : decode Y_Mo_leapOf.2.1 95 = .ok (.bipush 52, 2) := by decide +kernel
theorem d_Mo_leapOf_97 : decode Y_Mo_leapOf.2.1 97 = .ok (.irem, 1) := by decide +kernel
theorem d_Mo_leapOf_98 : decode Y_Mo_leapOf.2.1 98 = .ok (.bipush 13, 2) := by decide +kernel
theorem d_Mo_leapOf_100 : decode Y_Mo_leapOf.2.1 100 = .ok (.idiv, 1) := by decide +kernel
theorem d_Mo_leapOf_101 : decode Y_Mo_leapOf.2.1 101 = .ok (.istore 9, 2) := by decide +kernel
theorem d_Mo_leapOf_103 : decode Y_Mo_leapOf.2.1 103 = .ok (.iload 7, 2) := by decide +kernel
theorem d_Mo_leapOf_105 : decode Y_Mo_leapOf.2.1 105 = .ok (.bipush 13, 2) := by decide +kernel
theorem d_Mo_leapOf_107 : decode Y_Mo_leapOf.2.1 107 = .ok (.irem, 1) := by decide +kernel
theorem d_Mo_leapOf_108 : decode Y_Mo_leapOf.2.1 108 = .ok (.istore 10, 2) := by decide +kernel
theorem d_Mo_leapOf_110 : decode Y_Mo_leapOf.2.1 110 = .ok (.iload 6, 2) := by decide +kernel
theorem d_Mo_leapOf_112 : decode Y_Mo_leapOf.2.1 112 = .ok (.iconst 1, 1) := by decide +kernel
theorem d_Mo_leapOf_113 : decode Y_Mo_leapOf.2.1 113 = .ok (.if_icmp .ne 16, 3) := by decide +kernel
theorem d_Mo_leapOf_116 : decode Y_Mo_leapOf.2.1 116 = .ok (.iload 9, 2) := by decide +kernel
theorem d_Mo_leapOf_118 : decode Y_Mo_leapOf.2.1 118 = .ok (.iconst 1, 1) := by decide +kernel
theorem d_Mo_leapOf_119 : decode Y_Mo_leapOf.2.1 119 = .ok (.iadd, 1) := by decide +kernel
theorem d_Mo_leapOf_120 : decode Y_Mo_leapOf.2.1 120 = .ok (.aload_n 0, 1) := by decide +kernel
theorem d_Mo_leapOf_121 : decode Y_Mo_leapOf.2.1 121 = .ok (.iload 8, 2) := by decide +kernel
theorem d_Mo_leapOf_123 : decode Y_Mo_leapOf.2.1 123 = .ok (.invokevirtual 57, 3) := by decide +kernel
theorem d_Mo_leapOf_126 : decode Y_Mo_leapOf.2.1 126 = .ok (.if_icmp .eq 5, 3) := by decide +kernel
theorem d_Mo_leapOf_129 : decode Y_Mo_leapOf.2.1 129 = .ok (.iload_n 3, 1) := by decide +kernel
theorem d_Mo_leapOf_130 : decode Y_Mo_leapOf.2.1 130 = .ok (.ireturn, 1) := by decide +kernel
theorem d_Mo_leapOf_131 : decode Y_Mo_leapOf.2.1 131 = .ok (.iload 7, 2) := by decide +kernel
theorem d_Mo_leapOf_133 : decode Y_Mo_leapOf.2.1 133 = .ok (.bipush 13, 2) := by decide +kernel
theorem d_Mo_leapOf_135 : decode Y_Mo_leapOf.2.1 135 = .ok (.iadd, 1) := by decide +kernel
theorem d_Mo_leapOf_136 : decode Y_Mo_leapOf.2.1 136 = .ok (.istore_n 3, 1) := by decide +kernel
theorem d_Mo_leapOf_137 : decode Y_Mo_leapOf.2.1 137 = .ok (.iload 10, 2) := by decide +kernel
theorem d_Mo_leapOf_139 : decode Y_Mo_leapOf.2.1 139 = .ok (.iload 4, 2) := by decide +kernel
theorem d_Mo_leapOf_141 : decode Y_Mo_leapOf.2.1 141 = .ok (.if_icmp .ge 12, 3) := by decide +kernel
theorem d_Mo_leapOf_144 : decode Y_Mo_leapOf.2.1 144 = .ok (.iload 8, 2) := by decide +kernel
theorem d_Mo_leapOf_146 : decode Y_Mo_leapOf.2.1 146 = .ok (.ifCond .lt 7, 3) := by decide +kernel
theorem d_Mo_leapOf_149 : decode Y_Mo_leapOf.2.1 149 = .ok (.iconst 1, 1) := by decide +kernel
theorem d_Mo_leapOf_150 : decode Y_Mo_leapOf.2.1 150 = .ok (.goto 4, 3) := by decide +kernel
theorem d_Mo_leapOf_153 : decode Y_Mo_leapOf.2.1 153 = .ok (.iconst 0, 1) := by decide +kernel
theorem d_Mo_leapOf_154 : decode Y_Mo_leapOf.2.1 154 = .ok (.istore 11, 2) := by decide +kernel
theorem d_Mo_leapOf_156 : decode Y_Mo_leapOf.2.1 156 = .ok (.iload 11, 2) := by decide +kernel
theorem d_Mo_leapOf_158 : decode Y_Mo_leapOf.2.1 158 = .ok (.ifCond .eq 13, 3) := by decide +kernel
theorem d_Mo_leapOf_161 : decode Y_Mo_leapOf.2.1 161 = .ok (.aload_n 0, 1) := by decide +kernel
theorem d_Mo_leapOf_162 : decode Y_Mo_leapOf.2.1 162 = .ok (.getfield 7, 3) := by decide +kernel
theorem d_Mo_leapOf_165 : decode Y_Mo_leapOf.2.1 165 = .ok (.iload 8, 2) := by decide +kernel
theorem d_Mo_leapOf_167 : decode Y_Mo_leapOf.2.1 167 = .ok (.iaload, 1) := by decide +kernel
theorem d_Mo_leapOf_168 : decode Y_Mo_leapOf.2.1 168 = .ok (.goto 5, 3) := by decide +kernel
theorem d_Mo_leapOf_171 : decode Y_Mo_leapOf.2.1 171 = .ok (.iload 5, 2) := by decide +kernel
theorem d_Mo_leapOf_173 : decode Y_Mo_leapOf.2.1 173 = .ok (.istore 5, 2) := by decide +kernel
theorem d_Mo_leapOf_175 : decode Y_Mo_leapOf.2.1 175 = .ok (.iload 11, 2) := by decide +kernel
theorem d_Mo_leapOf_177 : decode Y_Mo_leapOf.2.1 177 = .ok (.ifCond .eq 8, 3) := by decide +kernel
theorem d_Mo_leapOf_180 : decode Y_Mo_leapOf.2.1 180 = .ok (.iload 10, 2) := by decide +kernel
theorem d_Mo_leapOf_182 : decode Y_Mo_leapOf.2.1 182 = .ok (.goto 4, 3) := by decide +kernel
theorem d_Mo_leapOf_185 : decode Y_Mo_leapOf.2.1 185 = .ok (.iconst (-1), 1) := by decide +kernel
theorem d_Mo_leapOf_186 : decode Y_Mo_leapOf.2.1 186 = .ok (.istore 4, 2) := by decide +kernel
theorem d_Mo_leapOf_188 : decode Y_Mo_leapOf.2.1 188 = .ok (.goto (-180), 3) := by decide +kernel
theorem d_Mo_leapOf_191 : decode Y_Mo_leapOf.2.1 191 = .ok (.iload_n 3, 1) := by decide +kernel
theorem d_Mo_leapOf_192 : decode Y_Mo_leapOf.2.1 192 = .ok (.ireturn, 1) := by decide +kernel
theorem d_Mo_thrown_0 : decode Y_Mo_thrown.2.1 0 = .ok (.aload_n 0, 1) := by decide +kernel
theorem d_Mo_thrown_1 : decode Y_Mo_thrown.2.1 1 = .ok (.getfield 53, 3) := by decide +kernel
theorem d_Mo_thrown_4 : decode Y_Mo_thrown.2.1 4 = .ok (.ireturn, 1) := by decide +kernel
theorem d_Mo_rule_0 : decode Y_Mo_rule.2.1 0 = .ok (.aload_n 0, 1) := by decide +kernel
theorem d_Mo_rule_1 : decode Y_Mo_rule.2.1 1 = .ok (.iconst 0, 1) := by decide +kernel
theorem d_Mo_rule_2 : decode Y_Mo_rule.2.1 2 = .ok (.putfield 53, 3) := by decide +kernel
theorem d_Mo_rule_5 : decode Y_Mo_rule.2.1 5 = .ok (.iload_n 1, 1) := by decide +kernel
theorem d_Mo_rule_6 : decode Y_Mo_rule.2.1 6 = .ok (.invokestatic 69, 3) := by decide +kernel
theorem d_Mo_rule_9 : decode Y_Mo_rule.2.1 9 = .ok (.ifCond .eq 20, 3) := by decide +kernel
theorem d_Mo_rule_12 : decode Y_Mo_rule.2.1 12 = .ok (.iload_n 2, 1) := by decide +kernel
theorem d_Mo_rule_13 : decode Y_Mo_rule.2.1 13 = .ok (.ifCond .lt 16, 3) := by decide +kernel
theorem d_Mo_rule_16 : decode Y_Mo_rule.2.1 16 = .ok (.iload_n 2, 1) := by decide +kernel
theorem d_Mo_rule_17 : decode Y_Mo_rule.2.1 17 = .ok (.iconst 3, 1) := by decide +kernel
theorem d_Mo_rule_18 : decode Y_Mo_rule.2.1 18 = .ok (.if_icmp .gt 11, 3) := by decide +kernel
theorem d_Mo_rule_21 : decode Y_Mo_rule.2.1 21 = .ok (.iload_n 3, 1) := by decide +kernel
theorem d_Mo_rule_22 : decode Y_Mo_rule.2.1 22 = .ok (.iconst 4, 1) := by decide +kernel
theorem d_Mo_rule_23 : decode Y_Mo_rule.2.1 23 = .ok (.iload_n 2, 1) := by decide +kernel
theorem d_Mo_rule_24 : decode Y_Mo_rule.2.1 24 = .ok (.imul, 1) := by decide +kernel
theorem d_Mo_rule_25 : decode Y_Mo_rule.2.1 25 = .ok (.iushr, 1) := by decide +kernel
theorem d_Mo_rule_26 : decode Y_Mo_rule.2.1 26 = .ok (.ifCond .eq 9, 3) := by decide +kernel
theorem d_Mo_rule_29 : decode Y_Mo_rule.2.1 29 = .ok (.aload_n 0, 1) := by decide +kernel
theorem d_Mo_rule_30 : decode Y_Mo_rule.2.1 30 = .ok (.iconst 1, 1) := by decide +kernel
theorem d_Mo_rule_31 : decode Y_Mo_rule.2.1 31 = .ok (.invokevirtual 91, 3) := by decide +kernel
theorem d_Mo_rule_34 : decode Y_Mo_rule.2.1 34 = .ok (.ireturn, 1) := by decide +kernel
theorem d_Mo_rule_35 : decode Y_Mo_rule.2.1 35 = .ok (.iconst 0, 1) := by decide +kernel
theorem d_Mo_rule_36 : decode Y_Mo_rule.2.1 36 = .ok (.istore 4, 2) := by decide +kernel
theorem d_Mo_rule_38 : decode Y_Mo_rule.2.1 38 = .ok (.iload 4, 2) := by decide +kernel
theorem d_Mo_rule_40 : decode Y_Mo_rule.2.1 40 = .ok (.iload_n 2, 1) := by decide +kernel
theorem d_Mo_rule_41 : decode Y_Mo_rule.2.1 41 = .ok (.if_icmp .ge 42, 3) := by decide +kernel
theorem d_Mo_rule_44 : decode Y_Mo_rule.2.1 44 = .ok (.iload_n 3, 1) := by decide +kernel
theorem d_Mo_rule_45 : decode Y_Mo_rule.2.1 45 = .ok (.iconst 4, 1) := by decide +kernel
theorem d_Mo_rule_46 : decode Y_Mo_rule.2.1 46 = .ok (.iload 4, 2) := by decide +kernel
theorem d_Mo_rule_48 : decode Y_Mo_rule.2.1 48 = .ok (.imul, 1) := by decide +kernel
theorem d_Mo_rule_49 : decode Y_Mo_rule.2.1 49 = .ok (.ishr, 1) := by decide +kernel
theorem d_Mo_rule_50 : decode Y_Mo_rule.2.1 50 = .ok (.bipush 15, 2) := by decide +kernel
theorem d_Mo_rule_52 : decode Y_Mo_rule.2.1 52 = .ok (.iand, 1) := by decide +kernel
theorem d_Mo_rule_53 : decode Y_Mo_rule.2.1 53 = .ok (.istore 5, 2) := by decide +kernel
theorem d_Mo_rule_55 : decode Y_Mo_rule.2.1 55 = .ok (.iload 5, 2) := by decide +kernel
theorem d_Mo_rule_57 : decode Y_Mo_rule.2.1 57 = .ok (.invokestatic 69, 3) := by decide +kernel
theorem d_Mo_rule_60 : decode Y_Mo_rule.2.1 60 = .ok (.ifCond .ne 17, 3) := by decide +kernel
theorem d_Mo_rule_63 : decode Y_Mo_rule.2.1 63 = .ok (.iload 5, 2) := by decide +kernel
theorem d_Mo_rule_65 : decode Y_Mo_rule.2.1 65 = .ok (.invokestatic 94, 3) := by decide +kernel
theorem d_Mo_rule_68 : decode Y_Mo_rule.2.1 68 = .ok (.ifCond .ne 9, 3) := by decide +kernel
theorem d_Mo_rule_71 : decode Y_Mo_rule.2.1 71 = .ok (.aload_n 0, 1) := by decide +kernel
theorem d_Mo_rule_72 : decode Y_Mo_rule.2.1 72 = .ok (.iconst 1, 1) := by decide +kernel
theorem d_Mo_rule_73 : decode Y_Mo_rule.2.1 73 = .ok (.invokevirtual 91, 3) := by decide +kernel
theorem d_Mo_rule_76 : decode Y_Mo_rule.2.1 76 = .ok (.ireturn, 1) := by decide +kernel
theorem d_Mo_rule_77 : decode Y_Mo_rule.2.1 77 = .ok (.iinc 4 1, 3) := by decide +kernel
theorem d_Mo_rule_80 : decode Y_Mo_rule.2.1 80 = .ok (.goto (-42), 3) := by decide +kernel
theorem d_Mo_rule_83 : decode Y_Mo_rule.2.1 83 = .ok (.aload_n 0, 1) := by decide +kernel
theorem d_Mo_rule_84 : decode Y_Mo_rule.2.1 84 = .ok (.getfield 73, 3) := by decide +kernel
theorem d_Mo_rule_87 : decode Y_Mo_rule.2.1 87 = .ok (.bipush 10, 2) := by decide +kernel
theorem d_Mo_rule_89 : decode Y_Mo_rule.2.1 89 = .ok (.if_icmp .eq 10, 3) := by decide +kernel
theorem d_Mo_rule_92 : decode Y_Mo_rule.2.1 92 = .ok (.aload_n 0, 1) := by decide +kernel
theorem d_Mo_rule_93 : decode Y_Mo_rule.2.1 93 = .ok (.getfield 97, 3) := by decide +kernel
theorem d_Mo_rule_96 : decode Y_Mo_rule.2.1 96 = .ok (.ifCond .le 9, 3) := by decide +kernel
theorem d_Mo_rule_99 : decode Y_Mo_rule.2.1 99 = .ok (.aload_n 0, 1) := by decide +kernel
theorem d_Mo_rule_100 : decode Y_Mo_rule.2.1 100 = .ok (.iconst 2, 1) := by decide +kernel
theorem d_Mo_rule_101 : decode Y_Mo_rule.2.1 101 = .ok (.invokevirtual 91, 3) := by decide +kernel
theorem d_Mo_rule_104 : decode Y_Mo_rule.2.1 104 = .ok (.ireturn, 1) := by decide +kernel
theorem d_Mo_rule_105 : decode Y_Mo_rule.2.1 105 = .ok (.aload_n 0, 1) := by decide +kernel
theorem d_Mo_rule_106 : decode Y_Mo_rule.2.1 106 = .ok (.getfield 7, 3) := by decide +kernel
theorem d_Mo_rule_109 : decode Y_Mo_rule.2.1 109 = .ok (.aload_n 0, 1) := by decide +kernel
theorem d_Mo_rule_110 : decode Y_Mo_rule.2.1 110 = .ok (.getfield 73, 3) := by decide +kernel
theorem d_Mo_rule_113 : decode Y_Mo_rule.2.1 113 = .ok (.iload_n 1, 1) := by decide +kernel
theorem d_Mo_rule_114 : decode Y_Mo_rule.2.1 114 = .ok (.iastore, 1) := by decide +kernel
theorem d_Mo_rule_115 : decode Y_Mo_rule.2.1 115 = .ok (.aload_n 0, 1) := by decide +kernel
theorem d_Mo_rule_116 : decode Y_Mo_rule.2.1 116 = .ok (.getfield 13, 3) := by decide +kernel
theorem d_Mo_rule_119 : decode Y_Mo_rule.2.1 119 = .ok (.aload_n 0, 1) := by decide +kernel
theorem d_Mo_rule_120 : decode Y_Mo_rule.2.1 120 = .ok (.getfield 73, 3) := by decide +kernel
theorem d_Mo_rule_123 : decode Y_Mo_rule.2.1 123 = .ok (.iload_n 2, 1) := by decide +kernel
theorem d_Mo_rule_124 : decode Y_Mo_rule.2.1 124 = .ok (.iastore, 1) := by decide +kernel
theorem d_Mo_rule_125 : decode Y_Mo_rule.2.1 125 = .ok (.iconst 0, 1) := by decide +kernel
theorem d_Mo_rule_126 : decode Y_Mo_rule.2.1 126 = .ok (.istore 4, 2) := by decide +kernel
theorem d_Mo_rule_128 : decode Y_Mo_rule.2.1 128 = .ok (.iload 4, 2) := by decide +kernel
theorem d_Mo_rule_130 : decode Y_Mo_rule.2.1 130 = .ok (.iload_n 2, 1) := by decide +kernel
theorem d_Mo_rule_131 : decode Y_Mo_rule.2.1 131 = .ok (.if_icmp .ge 32, 3) := by decide +kernel
theorem d_Mo_rule_134 : decode Y_Mo_rule.2.1 134 = .ok (.aload_n 0, 1) := by decide +kernel
theorem d_Mo_rule_135 : decode Y_Mo_rule.2.1 135 = .ok (.getfield 16, 3) := by decide +kernel
theorem d_Mo_rule_138 : decode Y_Mo_rule.2.1 138 = .ok (.iconst 3, 1) := by decide +kernel
theorem d_Mo_rule_139 : decode Y_Mo_rule.2.1 139 = .ok (.aload_n 0, 1) := by decide +kernel
theorem d_Mo_rule_140 : decode Y_Mo_rule.2.1 140 = .ok (.getfield 73, 3) := by decide +kernel
theorem d_Mo_rule_143 : decode Y_Mo_rule.2.1 143 = .ok (.imul, 1) := by decide +kernel
theorem d_Mo_rule_144 : decode Y_Mo_rule.2.1 144 = .ok (.iload 4, 2) := by decide +kernel
theorem d_Mo_rule_146 : decode Y_Mo_rule.2.1 146 = .ok (.iadd, 1) := by decide +kernel
theorem d_Mo_rule_147 : decode Y_Mo_rule.2.1 147 = .ok (.iload_n 3, 1) := by decide +kernel
theorem d_Mo_rule_148 : decode Y_Mo_rule.2.1 148 = .ok (.iconst 4, 1) := by decide +kernel
theorem d_Mo_rule_149 : decode Y_Mo_rule.2.1 149 = .ok (.iload 4, 2) := by decide +kernel
theorem d_Mo_rule_151 : decode Y_Mo_rule.2.1 151 = .ok (.imul, 1) := by decide +kernel
theorem d_Mo_rule_152 : decode Y_Mo_rule.2.1 152 = .ok (.ishr, 1) := by decide +kernel
theorem d_Mo_rule_153 : decode Y_Mo_rule.2.1 153 = .ok (.bipush 15, 2) := by decide +kernel
theorem d_Mo_rule_155 : decode Y_Mo_rule.2.1 155 = .ok (.iand, 1) := by decide +kernel
theorem d_Mo_rule_156 : decode Y_Mo_rule.2.1 156 = .ok (.iastore, 1) := by decide +kernel
theorem d_Mo_rule_157 : decode Y_Mo_rule.2.1 157 = .ok (.iinc 4 1, 3) := by decide +kernel
theorem d_Mo_rule_160 : decode Y_Mo_rule.2.1 160 = .ok (.goto (-32), 3) := by decide +kernel
theorem d_Mo_rule_163 : decode Y_Mo_rule.2.1 163 = .ok (.aload_n 0, 1) := by decide +kernel
theorem d_Mo_rule_164 : decode Y_Mo_rule.2.1 164 = .ok (.dup, 1) := by decide +kernel
theorem d_Mo_rule_165 : decode Y_Mo_rule.2.1 165 = .ok (.getfield 73, 3) := by decide +kernel
theorem d_Mo_rule_168 : decode Y_Mo_rule.2.1 168 = .ok (.iconst 1, 1) := by decide +kernel
theorem d_Mo_rule_169 : decode Y_Mo_rule.2.1 169 = .ok (.iadd, 1) := by decide +kernel
theorem d_Mo_rule_170 : decode Y_Mo_rule.2.1 170 = .ok (.putfield 73, 3) := by decide +kernel
theorem d_Mo_rule_173 : decode Y_Mo_rule.2.1 173 = .ok (.aload_n 0, 1) := by decide +kernel
theorem d_Mo_rule_174 : decode Y_Mo_rule.2.1 174 = .ok (.iconst 0, 1) := by decide +kernel
theorem d_Mo_rule_175 : decode Y_Mo_rule.2.1 175 = .ok (.invokevirtual 49, 3) := by decide +kernel
theorem d_Mo_rule_178 : decode Y_Mo_rule.2.1 178 = .ok (.aload_n 0, 1) := by decide +kernel
theorem d_Mo_rule_179 : decode Y_Mo_rule.2.1 179 = .ok (.getfield 73, 3) := by decide +kernel
theorem d_Mo_rule_182 : decode Y_Mo_rule.2.1 182 = .ok (.iconst 1, 1) := by decide +kernel
theorem d_Mo_rule_183 : decode Y_Mo_rule.2.1 183 = .ok (.isub, 1) := by decide +kernel
theorem d_Mo_rule_184 : decode Y_Mo_rule.2.1 184 = .ok (.ireturn, 1) := by decide +kernel
theorem d_Mo_refuse_0 : decode Y_Mo_refuse.2.1 0 = .ok (.aload_n 0, 1) := by decide +kernel
theorem d_Mo_refuse_1 : decode Y_Mo_refuse.2.1 1 = .ok (.iload_n 1, 1) := by decide +kernel
theorem d_Mo_refuse_2 : decode Y_Mo_refuse.2.1 2 = .ok (.putfield 53, 3) := by decide +kernel
theorem d_Mo_refuse_5 : decode Y_Mo_refuse.2.1 5 = .ok (.iconst 0, 1) := by decide +kernel
theorem d_Mo_refuse_6 : decode Y_Mo_refuse.2.1 6 = .ok (.ireturn, 1) := by decide +kernel
theorem d_Mo_isTerminal_0 : decode Y_Mo_isTerminal.2.1 0 = .ok (.iload_n 0, 1) := by decide +kernel
theorem d_Mo_isTerminal_1 : decode Y_Mo_isTerminal.2.1 1 = .ok (.bipush 8, 2) := by decide +kernel
theorem d_Mo_isTerminal_3 : decode Y_Mo_isTerminal.2.1 3 = .ok (.if_icmp .lt 13, 3) := by decide +kernel
theorem d_Mo_isTerminal_6 : decode Y_Mo_isTerminal.2.1 6 = .ok (.iload_n 0, 1) := by decide +kernel
theorem d_Mo_isTerminal_7 : decode Y_Mo_isTerminal.2.1 7 = .ok (.bipush 11, 2) := by decide +kernel
theorem d_Mo_isTerminal_9 : decode Y_Mo_isTerminal.2.1 9 = .ok (.if_icmp .gt 7, 3) := by decide +kernel
theorem d_Mo_isTerminal_12 : decode Y_Mo_isTerminal.2.1 12 = .ok (.iconst 1, 1) := by decide +kernel
theorem d_Mo_isTerminal_13 : decode Y_Mo_isTerminal.2.1 13 = .ok (.goto 4, 3) := by decide +kernel
theorem d_Mo_isTerminal_16 : decode Y_Mo_isTerminal.2.1 16 = .ok (.iconst 0, 1) := by decide +kernel
theorem d_Mo_isTerminal_17 : decode Y_Mo_isTerminal.2.1 17 = .ok (.ireturn, 1) := by decide +kernel
theorem d_Mo_feed_0 : decode Y_Mo_feed.2.1 0 = .ok (.aload_n 0, 1) := by decide +kernel
theorem d_Mo_feed_1 : decode Y_Mo_feed.2.1 1 = .ok (.iconst 0, 1) := by decide +kernel
theorem d_Mo_feed_2 : decode Y_Mo_feed.2.1 2 = .ok (.putfield 53, 3) := by decide +kernel
theorem d_Mo_feed_5 : decode Y_Mo_feed.2.1 5 = .ok (.iload_n 1, 1) := by decide +kernel
theorem d_Mo_feed_6 : decode Y_Mo_feed.2.1 6 = .ok (.invokestatic 94, 3) := by decide +kernel
theorem d_Mo_feed_9 : decode Y_Mo_feed.2.1 9 = .ok (.ifCond .ne 9, 3) := by decide +kernel
theorem d_Mo_feed_12 : decode Y_Mo_feed.2.1 12 = .ok (.aload_n 0, 1) := by decide +kernel
theorem d_Mo_feed_13 : decode Y_Mo_feed.2.1 13 = .ok (.iconst 1, 1) := by decide +kernel
theorem d_Mo_feed_14 : decode Y_Mo_feed.2.1 14 = .ok (.invokevirtual 91, 3) := by decide +kernel
theorem d_Mo_feed_17 : decode Y_Mo_feed.2.1 17 = .ok (.ireturn, 1) := by decide +kernel
theorem d_Mo_feed_18 : decode Y_Mo_feed.2.1 18 = .ok (.aload_n 0, 1) := by decide +kernel
theorem d_Mo_feed_19 : decode Y_Mo_feed.2.1 19 = .ok (.getfield 97, 3) := by decide +kernel
theorem d_Mo_feed_22 : decode Y_Mo_feed.2.1 22 = .ok (.bipush 12, 2) := by decide +kernel
theorem d_Mo_feed_24 : decode Y_Mo_feed.2.1 24 = .ok (.if_icmp .ne 9, 3) := by decide +kernel
theorem d_Mo_feed_27 : decode Y_Mo_feed.2.1 27 = .ok (.aload_n 0, 1) := by decide +kernel
theorem d_Mo_feed_28 : decode Y_Mo_feed.2.1 28 = .ok (.iconst 2, 1) := by decide +kernel
theorem d_Mo_feed_29 : decode Y_Mo_feed.2.1 29 = .ok (.invokevirtual 91, 3) := by decide +kernel
theorem d_Mo_feed_32 : decode Y_Mo_feed.2.1 32 = .ok (.ireturn, 1) := by decide +kernel
theorem d_Mo_feed_33 : decode Y_Mo_feed.2.1 33 = .ok (.aload_n 0, 1) := by decide +kernel
theorem d_Mo_feed_34 : decode Y_Mo_feed.2.1 34 = .ok (.aload_n 0, 1) := by decide +kernel
theorem d_Mo_feed_35 : decode Y_Mo_feed.2.1 35 = .ok (.getfield 97, 3) := by decide +kernel
theorem d_Mo_feed_38 : decode Y_Mo_feed.2.1 38 = .ok (.invokevirtual 100, 3) := by decide +kernel
theorem d_Mo_feed_41 : decode Y_Mo_feed.2.1 41 = .ok (.iload_n 1, 1) := by decide +kernel
theorem d_Mo_feed_42 : decode Y_Mo_feed.2.1 42 = .ok (.bipush 8, 2) := by decide +kernel
theorem d_Mo_feed_44 : decode Y_Mo_feed.2.1 44 = .ok (.isub, 1) := by decide +kernel
theorem d_Mo_feed_45 : decode Y_Mo_feed.2.1 45 = .ok (.ishr, 1) := by decide +kernel
theorem d_Mo_feed_46 : decode Y_Mo_feed.2.1 46 = .ok (.iconst 1, 1) := by decide +kernel
theorem d_Mo_feed_47 : decode Y_Mo_feed.2.1 47 = .ok (.iand, 1) := by decide +kernel
theorem d_Mo_feed_48 : decode Y_Mo_feed.2.1 48 = .ok (.ifCond .ne 9, 3) := by decide +kernel
theorem d_Mo_feed_51 : decode Y_Mo_feed.2.1 51 = .ok (.aload_n 0, 1) := by decide +kernel
theorem d_Mo_feed_52 : decode Y_Mo_feed.2.1 52 = .ok (.iconst 3, 1) := by decide +kernel
theorem d_Mo_feed_53 : decode Y_Mo_feed.2.1 53 = .ok (.invokevirtual 91, 3) := by decide +kernel
theorem d_Mo_feed_56 : decode Y_Mo_feed.2.1 56 = .ok (.ireturn, 1) := by decide +kernel
theorem d_Mo_feed_57 : decode Y_Mo_feed.2.1 57 = .ok (.aload_n 0, 1) := by decide +kernel
theorem d_Mo_feed_58 : decode Y_Mo_feed.2.1 58 = .ok (.getfield 19, 3) := by decide +kernel
theorem d_Mo_feed_61 : decode Y_Mo_feed.2.1 61 = .ok (.aload_n 0, 1) := by decide +kernel
theorem d_Mo_feed_62 : decode Y_Mo_feed.2.1 62 = .ok (.getfield 97, 3) := by decide +kernel
theorem d_Mo_feed_65 : decode Y_Mo_feed.2.1 65 = .ok (.iload_n 1, 1) := by decide +kernel
theorem d_Mo_feed_66 : decode Y_Mo_feed.2.1 66 = .ok (.iastore, 1) := by decide +kernel
theorem d_Mo_feed_67 : decode Y_Mo_feed.2.1 67 = .ok (.aload_n 0, 1) := by decide +kernel
theorem d_Mo_feed_68 : decode Y_Mo_feed.2.1 68 = .ok (.dup, 1) := by decide +kernel
theorem d_Mo_feed_69 : decode Y_Mo_feed.2.1 69 = .ok (.getfield 97, 3) := by decide +kernel
theorem d_Mo_feed_72 : decode Y_Mo_feed.2.1 72 = .ok (.iconst 1, 1) := by decide +kernel
theorem d_Mo_feed_73 : decode Y_Mo_feed.2.1 73 = .ok (.iadd, 1) := by decide +kernel
theorem d_Mo_feed_74 : decode Y_Mo_feed.2.1 74 = .ok (.putfield 97, 3) := by decide +kernel
theorem d_Mo_feed_77 : decode Y_Mo_feed.2.1 77 = .ok (.aload_n 0, 1) := by decide +kernel
theorem d_Mo_feed_78 : decode Y_Mo_feed.2.1 78 = .ok (.aload_n 0, 1) := by decide +kernel
theorem d_Mo_feed_79 : decode Y_Mo_feed.2.1 79 = .ok (.getfield 97, 3) := by decide +kernel
theorem d_Mo_feed_82 : decode Y_Mo_feed.2.1 82 = .ok (.invokevirtual 49, 3) := by decide +kernel
theorem d_Mo_feed_85 : decode Y_Mo_feed.2.1 85 = .ok (.aload_n 0, 1) := by decide +kernel
theorem d_Mo_feed_86 : decode Y_Mo_feed.2.1 86 = .ok (.aload_n 0, 1) := by decide +kernel
theorem d_Mo_feed_87 : decode Y_Mo_feed.2.1 87 = .ok (.getfield 97, 3) := by decide +kernel
theorem d_Mo_feed_90 : decode Y_Mo_feed.2.1 90 = .ok (.invokevirtual 103, 3) := by decide +kernel
theorem d_Mo_feed_93 : decode Y_Mo_feed.2.1 93 = .ok (.ireturn, 1) := by decide +kernel
theorem d_Mo_expectedIn_0 : decode Y_Mo_expectedIn.2.1 0 = .ok (.iconst 0, 1) := by decide +kernel
theorem d_Mo_expectedIn_1 : decode Y_Mo_expectedIn.2.1 1 = .ok (.istore_n 2, 1) := by decide +kernel
theorem d_Mo_expectedIn_2 : decode Y_Mo_expectedIn.2.1 2 = .ok (.iconst 0, 1) := by decide +kernel
theorem d_Mo_expectedIn_3 : decode Y_Mo_expectedIn.2.1 3 = .ok (.istore_n 3, 1) := by decide +kernel
theorem d_Mo_expectedIn_4 : decode Y_Mo_expectedIn.2.1 4 = .ok (.iload_n 3, 1) := by decide +kernel
theorem d_Mo_expectedIn_5 : decode Y_Mo_expectedIn.2.1 5 = .ok (.sipush 572, 3) := by decide +kernel
theorem d_Mo_expectedIn_8 : decode Y_Mo_expectedIn.2.1 8 = .ok (.if_icmp .ge 68, 3) := by decide +kernel
theorem d_Mo_expectedIn_11 : decode Y_Mo_expectedIn.2.1 11 = .ok (.aload_n 0, 1) := by decide +kernel
theorem d_Mo_expectedIn_12 : decode Y_Mo_expectedIn.2.1 12 = .ok (.getfield 22, 3) := by decide +kernel
theorem d_Mo_expectedIn_15 : decode Y_Mo_expectedIn.2.1 15 = .ok (.sipush 572, 3) := by decide +kernel
theorem d_Mo_expectedIn_18 : decode Y_Mo_expectedIn.2.1 18 = .ok (.iload_n 1, 1) := by decide +kernel
theorem d_Mo_expectedIn_19 : decode Y_Mo_expectedIn.2.1 19 = .ok (.imul, 1) := by decide +kernel
theorem d_Mo_expectedIn_20 : decode Y_Mo_expectedIn.2.1 20 = .ok (.iload_n 3, 1) := by decide +kernel
theorem d_Mo_expectedIn_21 : decode Y_Mo_expectedIn.2.1 21 = .ok (.iadd, 1) := by decide +kernel
theorem d_Mo_expectedIn_22 : decode Y_Mo_expectedIn.2.1 22 = .ok (.baload, 1) := by decide +kernel
theorem d_Mo_expectedIn_23 : decode Y_Mo_expectedIn.2.1 23 = .ok (.ifCond .eq 23, 3) := by decide +kernel
theorem d_Mo_expectedIn_26 : decode Y_Mo_expectedIn.2.1 26 = .ok (.aload_n 0, 1) := by decide +kernel
theorem d_Mo_expectedIn_27 : decode Y_Mo_expectedIn.2.1 27 = .ok (.iload_n 3, 1) := by decide +kernel
theorem d_Mo_expectedIn_28 : decode Y_Mo_expectedIn.2.1 28 = .ok (.bipush 52, 2) := by decide +kernel
theorem d_Mo_expectedIn_30 : decode Y_Mo_expectedIn.2.1 30 = .ok (.idiv, 1) := by decide +kernel
theorem d_Mo_expectedIn_31 : decode Y_Mo_expectedIn.2.1 31 = .ok (.iconst 1, 1) := by decide +kernel
theorem d_Mo_expectedIn_32 : decode Y_Mo_expectedIn.2.1 32 = .ok (.isub, 1) := by decide +kernel
theorem d_Mo_expectedIn_33 : decode Y_Mo_expectedIn.2.1 33 = .ok (.iload_n 3, 1) := by decide +kernel
theorem d_Mo_expectedIn_34 : decode Y_Mo_expectedIn.2.1 34 = .ok (.bipush 52, 2) := by decide +kernel
theorem d_Mo_expectedIn_36 : decode Y_Mo_expectedIn.2.1 36 = .ok (.irem, 1) := by decide +kernel
theorem d_Mo_expectedIn_37 : decode Y_Mo_expectedIn.2.1 37 = .ok (.bipush 13, 2) := by decide +kernel
theorem d_Mo_expectedIn_39 : decode Y_Mo_expectedIn.2.1 39 = .ok (.idiv, 1) := by decide +kernel
theorem d_Mo_expectedIn_40 : decode Y_Mo_expectedIn.2.1 40 = .ok (.invokevirtual 65, 3) := by decide +kernel
theorem d_Mo_expectedIn_43 : decode Y_Mo_expectedIn.2.1 43 = .ok (.goto 4, 3) := by decide +kernel
theorem d_Mo_expectedIn_46 : decode Y_Mo_expectedIn.2.1 46 = .ok (.iconst (-1), 1) := by decide +kernel
theorem d_Mo_expectedIn_47 : decode Y_Mo_expectedIn.2.1 47 = .ok (.istore 4, 2) := by decide +kernel
theorem d_Mo_expectedIn_49 : decode Y_Mo_expectedIn.2.1 49 = .ok (.iload_n 2, 1) := by decide +kernel
theorem d_Mo_expectedIn_50 : decode Y_Mo_expectedIn.2.1 50 = .ok (.iload 4, 2) := by decide +kernel
theorem d_Mo_expectedIn_52 : decode Y_Mo_expectedIn.2.1 52 = .ok (.bipush 8, 2) := by decide +kernel
theorem d_Mo_expectedIn_54 : decode Y_Mo_expectedIn.2.1 54 = .ok (.if_icmp .lt 13, 3) := by decide +kernel
theorem d_Mo_expectedIn_57 : decode Y_Mo_expectedIn.2.1 57 = .ok (.iconst 1, 1) := by decide +kernel
theorem d_Mo_expectedIn_58 : decode Y_Mo_expectedIn.2.1 58 = .ok (.iload 4, 2) := by decide +kernel
theorem d_Mo_expectedIn_60 : decode Y_Mo_expectedIn.2.1 60 = .ok (.bipush 8, 2) := by decide +kernel
theorem d_Mo_expectedIn_62 : decode Y_Mo_expectedIn.2.1 62 = .ok (.isub, 1) := by decide +kernel
theorem d_Mo_expectedIn_63 : decode Y_Mo_expectedIn.2.1 63 = .ok (.ishl, 1) := by decide +kernel
theorem d_Mo_expectedIn_64 : decode Y_Mo_expectedIn.2.1 64 = .ok (.goto 4, 3) := by decide +kernel
theorem d_Mo_expectedIn_67 : decode Y_Mo_expectedIn.2.1 67 = .ok (.iconst 0, 1) := by decide +kernel
theorem d_Mo_expectedIn_68 : decode Y_Mo_expectedIn.2.1 68 = .ok (.ior, 1) := by decide +kernel
theorem d_Mo_expectedIn_69 : decode Y_Mo_expectedIn.2.1 69 = .ok (.istore_n 2, 1) := by decide +kernel
theorem d_Mo_expectedIn_70 : decode Y_Mo_expectedIn.2.1 70 = .ok (.iinc 3 1, 3) := by decide +kernel
theorem d_Mo_expectedIn_73 : decode Y_Mo_expectedIn.2.1 73 = .ok (.goto (-69), 3) := by decide +kernel
theorem d_Mo_expectedIn_76 : decode Y_Mo_expectedIn.2.1 76 = .ok (.iload_n 2, 1) := by decide +kernel
theorem d_Mo_expectedIn_77 : decode Y_Mo_expectedIn.2.1 77 = .ok (.ireturn, 1) := by decide +kernel
theorem d_Mo_sizeOf_0 : decode Y_Mo_sizeOf.2.1 0 = .ok (.iconst 0, 1) := by decide +kernel
theorem d_Mo_sizeOf_1 : decode Y_Mo_sizeOf.2.1 1 = .ok (.istore_n 2, 1) := by decide +kernel
theorem d_Mo_sizeOf_2 : decode Y_Mo_sizeOf.2.1 2 = .ok (.iconst 0, 1) := by decide +kernel
theorem d_Mo_sizeOf_3 : decode Y_Mo_sizeOf.2.1 3 = .ok (.istore_n 3, 1) := by decide +kernel
theorem d_Mo_sizeOf_4 : decode Y_Mo_sizeOf.2.1 4 = .ok (.iload_n 3, 1) := by decide +kernel
theorem d_Mo_sizeOf_5 : decode Y_Mo_sizeOf.2.1 5 = .ok (.sipush 572, 3) := by decide +kernel
theorem d_Mo_sizeOf_8 : decode Y_Mo_sizeOf.2.1 8 = .ok (.if_icmp .ge 32, 3) := by decide +kernel
theorem d_Mo_sizeOf_11 : decode Y_Mo_sizeOf.2.1 11 = .ok (.iload_n 2, 1) := by decide +kernel
theorem d_Mo_sizeOf_12 : decode Y_Mo_sizeOf.2.1 12 = .ok (.aload_n 0, 1) := by decide +kernel
theorem d_Mo_sizeOf_13 : decode Y_Mo_sizeOf.2.1 13 = .ok (.getfield 22, 3) := by decide +kernel
theorem d_Mo_sizeOf_16 : decode Y_Mo_sizeOf.2.1 16 = .ok (.sipush 572, 3) := by decide +kernel
theorem d_Mo_sizeOf_19 : decode Y_Mo_sizeOf.2.1 19 = .ok (.iload_n 1, 1) := by decide +kernel
theorem d_Mo_sizeOf_20 : decode Y_Mo_sizeOf.2.1 20 = .ok (.imul, 1) := by decide +kernel
theorem d_Mo_sizeOf_21 : decode Y_Mo_sizeOf.2.1 21 = .ok (.iload_n 3, 1) := by decide +kernel
theorem d_Mo_sizeOf_22 : decode Y_Mo_sizeOf.2.1 22 = .ok (.iadd, 1) := by decide +kernel
theorem d_Mo_sizeOf_23 : decode Y_Mo_sizeOf.2.1 23 = .ok (.baload, 1) := by decide +kernel
theorem d_Mo_sizeOf_24 : decode Y_Mo_sizeOf.2.1 24 = .ok (.ifCond .eq 7, 3) := by decide +kernel
theorem d_Mo_sizeOf_27 : decode Y_Mo_sizeOf.2.1 27 = .ok (.iconst 1, 1) := by decide +kernel
theorem d_Mo_sizeOf_28 : decode Y_Mo_sizeOf.2.1 28 = .ok (.goto 4, 3) := by decide +kernel
theorem d_Mo_sizeOf_31 : decode Y_Mo_sizeOf.2.1 31 = .ok (.iconst 0, 1) := by decide +kernel
theorem d_Mo_sizeOf_32 : decode Y_Mo_sizeOf.2.1 32 = .ok (.iadd, 1) := by decide +kernel
theorem d_Mo_sizeOf_33 : decode Y_Mo_sizeOf.2.1 33 = .ok (.istore_n 2, 1) := by decide +kernel
theorem d_Mo_sizeOf_34 : decode Y_Mo_sizeOf.2.1 34 = .ok (.iinc 3 1, 3) := by decide +kernel
theorem d_Mo_sizeOf_37 : decode Y_Mo_sizeOf.2.1 37 = .ok (.goto (-33), 3) := by decide +kernel
theorem d_Mo_sizeOf_40 : decode Y_Mo_sizeOf.2.1 40 = .ok (.iload_n 2, 1) := by decide +kernel
theorem d_Mo_sizeOf_41 : decode Y_Mo_sizeOf.2.1 41 = .ok (.ireturn, 1) := by decide +kernel
theorem d_Mo_back_0 : decode Y_Mo_back.2.1 0 = .ok (.aload_n 0, 1) := by decide +kernel
theorem d_Mo_back_1 : decode Y_Mo_back.2.1 1 = .ok (.iconst 0, 1) := by decide +kernel
theorem d_Mo_back_2 : decode Y_Mo_back.2.1 2 = .ok (.putfield 53, 3) := by decide +kernel
theorem d_Mo_back_5 : decode Y_Mo_back.2.1 5 = .ok (.iload_n 1, 1) := by decide +kernel
theorem d_Mo_back_6 : decode Y_Mo_back.2.1 6 = .ok (.ifCond .lt 11, 3) := by decide +kernel
theorem d_Mo_back_9 : decode Y_Mo_back.2.1 9 = .ok (.iload_n 1, 1) := by decide +kernel
theorem d_Mo_back_10 : decode Y_Mo_back.2.1 10 = .ok (.aload_n 0, 1) := by decide +kernel
theorem d_Mo_back_11 : decode Y_Mo_back.2.1 11 = .ok (.getfield 97, 3) := by decide +kernel
theorem d_Mo_back_14 : decode Y_Mo_back.2.1 14 = .ok (.if_icmp .le 9, 3) := by decide +kernel
theorem d_Mo_back_17 : decode Y_Mo_back.2.1 17 = .ok (.aload_n 0, 1) := by decide +kernel
theorem d_Mo_back_18 : decode Y_Mo_back.2.1 18 = .ok (.iconst 1, 1) := by decide +kernel
theorem d_Mo_back_19 : decode Y_Mo_back.2.1 19 = .ok (.invokevirtual 91, 3) := by decide +kernel
theorem d_Mo_back_22 : decode Y_Mo_back.2.1 22 = .ok (.ireturn, 1) := by decide +kernel
theorem d_Mo_back_23 : decode Y_Mo_back.2.1 23 = .ok (.aload_n 0, 1) := by decide +kernel
theorem d_Mo_back_24 : decode Y_Mo_back.2.1 24 = .ok (.dup, 1) := by decide +kernel
theorem d_Mo_back_25 : decode Y_Mo_back.2.1 25 = .ok (.getfield 97, 3) := by decide +kernel
theorem d_Mo_back_28 : decode Y_Mo_back.2.1 28 = .ok (.iload_n 1, 1) := by decide +kernel
theorem d_Mo_back_29 : decode Y_Mo_back.2.1 29 = .ok (.isub, 1) := by decide +kernel
theorem d_Mo_back_30 : decode Y_Mo_back.2.1 30 = .ok (.putfield 97, 3) := by decide +kernel
theorem d_Mo_back_33 : decode Y_Mo_back.2.1 33 = .ok (.aload_n 0, 1) := by decide +kernel
theorem d_Mo_back_34 : decode Y_Mo_back.2.1 34 = .ok (.iconst 0, 1) := by decide +kernel
theorem d_Mo_back_35 : decode Y_Mo_back.2.1 35 = .ok (.putfield 85, 3) := by decide +kernel
theorem d_Mo_back_38 : decode Y_Mo_back.2.1 38 = .ok (.aload_n 0, 1) := by decide +kernel
theorem d_Mo_back_39 : decode Y_Mo_back.2.1 39 = .ok (.getfield 97, 3) := by decide +kernel
theorem d_Mo_back_42 : decode Y_Mo_back.2.1 42 = .ok (.ireturn, 1) := by decide +kernel
theorem d_Mo_fed_0 : decode Y_Mo_fed.2.1 0 = .ok (.aload_n 0, 1) := by decide +kernel
theorem d_Mo_fed_1 : decode Y_Mo_fed.2.1 1 = .ok (.iconst 0, 1) := by decide +kernel
theorem d_Mo_fed_2 : decode Y_Mo_fed.2.1 2 = .ok (.putfield 53, 3) := by decide +kernel
theorem d_Mo_fed_5 : decode Y_Mo_fed.2.1 5 = .ok (.aload_n 0, 1) := by decide +kernel
theorem d_Mo_fed_6 : decode Y_Mo_fed.2.1 6 = .ok (.getfield 97, 3) := by decide +kernel
theorem d_Mo_fed_9 : decode Y_Mo_fed.2.1 9 = .ok (.ireturn, 1) := by decide +kernel
theorem d_Mo_accepts_0 : decode Y_Mo_accepts.2.1 0 = .ok (.aload_n 0, 1) := by decide +kernel
theorem d_Mo_accepts_1 : decode Y_Mo_accepts.2.1 1 = .ok (.iconst 0, 1) := by decide +kernel
theorem d_Mo_accepts_2 : decode Y_Mo_accepts.2.1 2 = .ok (.putfield 53, 3) := by decide +kernel
theorem d_Mo_accepts_5 : decode Y_Mo_accepts.2.1 5 = .ok (.aload_n 0, 1) := by decide +kernel
theorem d_Mo_accepts_6 : decode Y_Mo_accepts.2.1 6 = .ok (.aload_n 0, 1) := by decide +kernel
theorem d_Mo_accepts_7 : decode Y_Mo_accepts.2.1 7 = .ok (.getfield 97, 3) := by decide +kernel
theorem d_Mo_accepts_10 : decode Y_Mo_accepts.2.1 10 = .ok (.iconst (-1), 1) := by decide +kernel
theorem d_Mo_accepts_11 : decode Y_Mo_accepts.2.1 11 = .ok (.iconst 1, 1) := by decide +kernel
theorem d_Mo_accepts_12 : decode Y_Mo_accepts.2.1 12 = .ok (.iconst 0, 1) := by decide +kernel
theorem d_Mo_accepts_13 : decode Y_Mo_accepts.2.1 13 = .ok (.invokevirtual 106, 3) := by decide +kernel
theorem d_Mo_accepts_16 : decode Y_Mo_accepts.2.1 16 = .ok (.ireturn, 1) := by decide +kernel
theorem d_Mo_holds_0 : decode Y_Mo_holds.2.1 0 = .ok (.aload_n 0, 1) := by decide +kernel
theorem d_Mo_holds_1 : decode Y_Mo_holds.2.1 1 = .ok (.getfield 22, 3) := by decide +kernel
theorem d_Mo_holds_4 : decode Y_Mo_holds.2.1 4 = .ok (.iload_n 1, 1) := by decide +kernel
theorem d_Mo_holds_5 : decode Y_Mo_holds.2.1 5 = .ok (.iload_n 2, 1) := by decide +kernel
theorem d_Mo_holds_6 : decode Y_Mo_holds.2.1 6 = .ok (.iload_n 3, 1) := by decide +kernel
theorem d_Mo_holds_7 : decode Y_Mo_holds.2.1 7 = .ok (.iload 4, 2) := by decide +kernel
theorem d_Mo_holds_9 : decode Y_Mo_holds.2.1 9 = .ok (.invokestatic 61, 3) := by decide +kernel
theorem d_Mo_holds_12 : decode Y_Mo_holds.2.1 12 = .ok (.baload, 1) := by decide +kernel
theorem d_Mo_holds_13 : decode Y_Mo_holds.2.1 13 = .ok (.ireturn, 1) := by decide +kernel
theorem d_Mo_expected_0 : decode Y_Mo_expected.2.1 0 = .ok (.aload_n 0, 1) := by decide +kernel
theorem d_Mo_expected_1 : decode Y_Mo_expected.2.1 1 = .ok (.iconst 0, 1) := by decide +kernel
theorem d_Mo_expected_2 : decode Y_Mo_expected.2.1 2 = .ok (.putfield 53, 3) := by decide +kernel
theorem d_Mo_expected_5 : decode Y_Mo_expected.2.1 5 = .ok (.aload_n 0, 1) := by decide +kernel
theorem d_Mo_expected_6 : decode Y_Mo_expected.2.1 6 = .ok (.aload_n 0, 1) := by decide +kernel
theorem d_Mo_expected_7 : decode Y_Mo_expected.2.1 7 = .ok (.getfield 97, 3) := by decide +kernel
theorem d_Mo_expected_10 : decode Y_Mo_expected.2.1 10 = .ok (.invokevirtual 100, 3) := by decide +kernel
theorem d_Mo_expected_13 : decode Y_Mo_expected.2.1 13 = .ok (.ireturn, 1) := by decide +kernel
theorem d_Mo_items_0 : decode Y_Mo_items.2.1 0 = .ok (.aload_n 0, 1) := by decide +kernel
theorem d_Mo_items_1 : decode Y_Mo_items.2.1 1 = .ok (.iconst 0, 1) := by decide +kernel
theorem d_Mo_items_2 : decode Y_Mo_items.2.1 2 = .ok (.putfield 53, 3) := by decide +kernel
theorem d_Mo_items_5 : decode Y_Mo_items.2.1 5 = .ok (.aload_n 0, 1) := by decide +kernel
theorem d_Mo_items_6 : decode Y_Mo_items.2.1 6 = .ok (.iload_n 1, 1) := by decide +kernel
theorem d_Mo_items_7 : decode Y_Mo_items.2.1 7 = .ok (.invokevirtual 110, 3) := by decide +kernel
theorem d_Mo_items_10 : decode Y_Mo_items.2.1 10 = .ok (.ifCond .eq 11, 3) := by decide +kernel
theorem d_Mo_items_13 : decode Y_Mo_items.2.1 13 = .ok (.aload_n 0, 1) := by decide +kernel
theorem d_Mo_items_14 : decode Y_Mo_items.2.1 14 = .ok (.iload_n 1, 1) := by decide +kernel
theorem d_Mo_items_15 : decode Y_Mo_items.2.1 15 = .ok (.invokevirtual 103, 3) := by decide +kernel
theorem d_Mo_items_18 : decode Y_Mo_items.2.1 18 = .ok (.goto 8, 3) := by decide +kernel
theorem d_Mo_items_21 : decode Y_Mo_items.2.1 21 = .ok (.aload_n 0, 1) := by decide +kernel
theorem d_Mo_items_22 : decode Y_Mo_items.2.1 22 = .ok (.iconst 1, 1) := by decide +kernel
theorem d_Mo_items_23 : decode Y_Mo_items.2.1 23 = .ok (.invokevirtual 91, 3) := by decide +kernel
theorem d_Mo_items_26 : decode Y_Mo_items.2.1 26 = .ok (.ireturn, 1) := by decide +kernel
theorem d_Mo_isSet_0 : decode Y_Mo_isSet.2.1 0 = .ok (.iload_n 1, 1) := by decide +kernel
theorem d_Mo_isSet_1 : decode Y_Mo_isSet.2.1 1 = .ok (.ifCond .lt 15, 3) := by decide +kernel
theorem d_Mo_isSet_4 : decode Y_Mo_isSet.2.1 4 = .ok (.iload_n 1, 1) := by decide +kernel
theorem d_Mo_isSet_5 : decode Y_Mo_isSet.2.1 5 = .ok (.aload_n 0, 1) := by decide +kernel
theorem d_Mo_isSet_6 : decode Y_Mo_isSet.2.1 6 = .ok (.getfield 97, 3) := by decide +kernel
theorem d_Mo_isSet_9 : decode Y_Mo_isSet.2.1 9 = .ok (.if_icmp .gt 7, 3) := by decide +kernel
theorem d_Mo_isSet_12 : decode Y_Mo_isSet.2.1 12 = .ok (.iconst 1, 1) := by decide +kernel
theorem d_Mo_isSet_13 : decode Y_Mo_isSet.2.1 13 = .ok (.goto 4, 3) := by decide +kernel
theorem d_Mo_isSet_16 : decode Y_Mo_isSet.2.1 16 = .ok (.iconst 0, 1) := by decide +kernel
theorem d_Mo_isSet_17 : decode Y_Mo_isSet.2.1 17 = .ok (.ireturn, 1) := by decide +kernel
theorem d_Mo_has_0 : decode Y_Mo_has.2.1 0 = .ok (.aload_n 0, 1) := by decide +kernel
theorem d_Mo_has_1 : decode Y_Mo_has.2.1 1 = .ok (.aload_n 0, 1) := by decide +kernel
theorem d_Mo_has_2 : decode Y_Mo_has.2.1 2 = .ok (.iload_n 1, 1) := by decide +kernel
theorem d_Mo_has_3 : decode Y_Mo_has.2.1 3 = .ok (.invokevirtual 110, 3) := by decide +kernel
theorem d_Mo_has_6 : decode Y_Mo_has.2.1 6 = .ok (.ifCond .eq 7, 3) := by decide +kernel
theorem d_Mo_has_9 : decode Y_Mo_has.2.1 9 = .ok (.iconst 0, 1) := by decide +kernel
theorem d_Mo_has_10 : decode Y_Mo_has.2.1 10 = .ok (.goto 4, 3) := by decide +kernel
theorem d_Mo_has_13 : decode Y_Mo_has.2.1 13 = .ok (.iconst 1, 1) := by decide +kernel
theorem d_Mo_has_14 : decode Y_Mo_has.2.1 14 = .ok (.putfield 53, 3) := by decide +kernel
theorem d_Mo_has_17 : decode Y_Mo_has.2.1 17 = .ok (.aload_n 0, 1) := by decide +kernel
theorem d_Mo_has_18 : decode Y_Mo_has.2.1 18 = .ok (.getfield 53, 3) := by decide +kernel
theorem d_Mo_has_21 : decode Y_Mo_has.2.1 21 = .ok (.ifCond .ne 38, 3) := by decide +kernel
theorem d_Mo_has_24 : decode Y_Mo_has.2.1 24 = .ok (.iload_n 2, 1) := by decide +kernel
theorem d_Mo_has_25 : decode Y_Mo_has.2.1 25 = .ok (.iconst (-1), 1) := by decide +kernel
theorem d_Mo_has_26 : decode Y_Mo_has.2.1 26 = .ok (.if_icmp .lt 33, 3) := by decide +kernel
theorem d_Mo_has_29 : decode Y_Mo_has.2.1 29 = .ok (.iload_n 2, 1) := by decide +kernel
theorem d_Mo_has_30 : decode Y_Mo_has.2.1 30 = .ok (.aload_n 0, 1) := by decide +kernel
theorem d_Mo_has_31 : decode Y_Mo_has.2.1 31 = .ok (.getfield 73, 3) := by decide +kernel
theorem d_Mo_has_34 : decode Y_Mo_has.2.1 34 = .ok (.if_icmp .ge 25, 3) := by decide +kernel
theorem d_Mo_has_37 : decode Y_Mo_has.2.1 37 = .ok (.iload_n 3, 1) := by decide +kernel
theorem d_Mo_has_38 : decode Y_Mo_has.2.1 38 = .ok (.ifCond .lt 21, 3) := by decide +kernel
theorem d_Mo_has_41 : decode Y_Mo_has.2.1 41 = .ok (.iload_n 3, 1) := by decide +kernel
theorem d_Mo_has_42 : decode Y_Mo_has.2.1 42 = .ok (.aload_n 0, 1) := by decide +kernel
theorem d_Mo_has_43 : decode Y_Mo_has.2.1 43 = .ok (.iload_n 2, 1) := by decide +kernel
theorem d_Mo_has_44 : decode Y_Mo_has.2.1 44 = .ok (.invokevirtual 57, 3) := by decide +kernel
theorem d_Mo_has_47 : decode Y_Mo_has.2.1 47 = .ok (.if_icmp .gt 12, 3) := by decide +kernel
theorem d_Mo_has_50 : decode Y_Mo_has.2.1 50 = .ok (.aload_n 0, 1) := by decide +kernel
theorem d_Mo_has_51 : decode Y_Mo_has.2.1 51 = .ok (.iload 4, 2) := by decide +kernel
theorem d_Mo_has_53 : decode Y_Mo_has.2.1 53 = .ok (.invokevirtual 110, 3) := by decide +kernel
theorem d_Mo_has_56 : decode Y_Mo_has.2.1 56 = .ok (.ifCond .ne 5, 3) := by decide +kernel
theorem d_Mo_has_59 : decode Y_Mo_has.2.1 59 = .ok (.iconst 0, 1) := by decide +kernel
theorem d_Mo_has_60 : decode Y_Mo_has.2.1 60 = .ok (.ireturn, 1) := by decide +kernel
theorem d_Mo_has_61 : decode Y_Mo_has.2.1 61 = .ok (.aload_n 0, 1) := by decide +kernel
theorem d_Mo_has_62 : decode Y_Mo_has.2.1 62 = .ok (.iload_n 1, 1) := by decide +kernel
theorem d_Mo_has_63 : decode Y_Mo_has.2.1 63 = .ok (.iload_n 2, 1) := by decide +kernel
theorem d_Mo_has_64 : decode Y_Mo_has.2.1 64 = .ok (.iload_n 3, 1) := by decide +kernel
theorem d_Mo_has_65 : decode Y_Mo_has.2.1 65 = .ok (.iload 4, 2) := by decide +kernel
theorem d_Mo_has_67 : decode Y_Mo_has.2.1 67 = .ok (.invokevirtual 106, 3) := by decide +kernel
theorem d_Mo_has_70 : decode Y_Mo_has.2.1 70 = .ok (.ireturn, 1) := by decide +kernel
theorem d_Mo_leap_0 : decode Y_Mo_leap.2.1 0 = .ok (.aload_n 0, 1) := by decide +kernel
theorem d_Mo_leap_1 : decode Y_Mo_leap.2.1 1 = .ok (.iconst 0, 1) := by decide +kernel
theorem d_Mo_leap_2 : decode Y_Mo_leap.2.1 2 = .ok (.putfield 53, 3) := by decide +kernel
theorem d_Mo_leap_5 : decode Y_Mo_leap.2.1 5 = .ok (.aload_n 0, 1) := by decide +kernel
theorem d_Mo_leap_6 : decode Y_Mo_leap.2.1 6 = .ok (.iload_n 1, 1) := by decide +kernel
theorem d_Mo_leap_7 : decode Y_Mo_leap.2.1 7 = .ok (.invokevirtual 110, 3) := by decide +kernel
theorem d_Mo_leap_10 : decode Y_Mo_leap.2.1 10 = .ok (.ifCond .eq 10, 3) := by decide +kernel
theorem d_Mo_leap_13 : decode Y_Mo_leap.2.1 13 = .ok (.iload_n 2, 1) := by decide +kernel
theorem d_Mo_leap_14 : decode Y_Mo_leap.2.1 14 = .ok (.invokestatic 69, 3) := by decide +kernel
theorem d_Mo_leap_17 : decode Y_Mo_leap.2.1 17 = .ok (.ifCond .ne 9, 3) := by decide +kernel
theorem d_Mo_leap_20 : decode Y_Mo_leap.2.1 20 = .ok (.aload_n 0, 1) := by decide +kernel
theorem d_Mo_leap_21 : decode Y_Mo_leap.2.1 21 = .ok (.iconst 1, 1) := by decide +kernel
theorem d_Mo_leap_22 : decode Y_Mo_leap.2.1 22 = .ok (.invokevirtual 91, 3) := by decide +kernel
theorem d_Mo_leap_25 : decode Y_Mo_leap.2.1 25 = .ok (.ireturn, 1) := by decide +kernel
theorem d_Mo_leap_26 : decode Y_Mo_leap.2.1 26 = .ok (.aload_n 0, 1) := by decide +kernel
theorem d_Mo_leap_27 : decode Y_Mo_leap.2.1 27 = .ok (.getfield 45, 3) := by decide +kernel
theorem d_Mo_leap_30 : decode Y_Mo_leap.2.1 30 = .ok (.ifCond .eq 20, 3) := by decide +kernel
theorem d_Mo_leap_33 : decode Y_Mo_leap.2.1 33 = .ok (.iload_n 1, 1) := by decide +kernel
theorem d_Mo_leap_34 : decode Y_Mo_leap.2.1 34 = .ok (.aload_n 0, 1) := by decide +kernel
theorem d_Mo_leap_35 : decode Y_Mo_leap.2.1 35 = .ok (.getfield 97, 3) := by decide +kernel
theorem d_Mo_leap_38 : decode Y_Mo_leap.2.1 38 = .ok (.if_icmp .ge 12, 3) := by decide +kernel
theorem d_Mo_leap_41 : decode Y_Mo_leap.2.1 41 = .ok (.aload_n 0, 1) := by decide +kernel
theorem d_Mo_leap_42 : decode Y_Mo_leap.2.1 42 = .ok (.iload_n 1, 1) := by decide +kernel
theorem d_Mo_leap_43 : decode Y_Mo_leap.2.1 43 = .ok (.iload_n 2, 1) := by decide +kernel
theorem d_Mo_leap_44 : decode Y_Mo_leap.2.1 44 = .ok (.invokevirtual 79, 3) := by decide +kernel
theorem d_Mo_leap_47 : decode Y_Mo_leap.2.1 47 = .ok (.goto 4, 3) := by decide +kernel
theorem d_Mo_leap_50 : decode Y_Mo_leap.2.1 50 = .ok (.iconst (-1), 1) := by decide +kernel
theorem d_Mo_leap_51 : decode Y_Mo_leap.2.1 51 = .ok (.istore_n 3, 1) := by decide +kernel
theorem d_Mo_leap_52 : decode Y_Mo_leap.2.1 52 = .ok (.iload_n 3, 1) := by decide +kernel
theorem d_Mo_leap_53 : decode Y_Mo_leap.2.1 53 = .ok (.ifCond .ge 7, 3) := by decide +kernel
theorem d_Mo_leap_56 : decode Y_Mo_leap.2.1 56 = .ok (.iconst (-1), 1) := by decide +kernel
theorem d_Mo_leap_57 : decode Y_Mo_leap.2.1 57 = .ok (.goto 27, 3) := by decide +kernel
theorem d_Mo_leap_60 : decode Y_Mo_leap.2.1 60 = .ok (.sipush 1000, 3) := by decide +kernel
theorem d_Mo_leap_63 : decode Y_Mo_leap.2.1 63 = .ok (.iload_n 3, 1) := by decide +kernel
theorem d_Mo_leap_64 : decode Y_Mo_leap.2.1 64 = .ok (.bipush 52, 2) := by decide +kernel
theorem d_Mo_leap_66 : decode Y_Mo_leap.2.1 66 = .ok (.idiv, 1) := by decide +kernel
theorem d_Mo_leap_67 : decode Y_Mo_leap.2.1 67 = .ok (.imul, 1) := by decide +kernel
theorem d_Mo_leap_68 : decode Y_Mo_leap.2.1 68 = .ok (.bipush 100, 2) := by decide +kernel
theorem d_Mo_leap_70 : decode Y_Mo_leap.2.1 70 = .ok (.iload_n 3, 1) := by decide +kernel
theorem d_Mo_leap_71 : decode Y_Mo_leap.2.1 71 = .ok (.bipush 52, 2) := by decide +kernel
theorem d_Mo_leap_73 : decode Y_Mo_leap.2.1 73 = .ok (.irem, 1) := by decide +kernel
theorem d_Mo_leap_74 : decode Y_Mo_leap.2.1 74 = .ok (.bipush 13, 2) := by decide +kernel
theorem d_Mo_leap_76 : decode Y_Mo_leap.2.1 76 = .ok (.idiv, 1) := by decide +kernel
theorem d_Mo_leap_77 : decode Y_Mo_leap.2.1 77 = .ok (.imul, 1) := by decide +kernel
theorem d_Mo_leap_78 : decode Y_Mo_leap.2.1 78 = .ok (.iadd, 1) := by decide +kernel
theorem d_Mo_leap_79 : decode Y_Mo_leap.2.1 79 = .ok (.iload_n 3, 1) := by decide +kernel
theorem d_Mo_leap_80 : decode Y_Mo_leap.2.1 80 = .ok (.bipush 13, 2) := by decide +kernel
theorem d_Mo_leap_82 : decode Y_Mo_leap.2.1 82 = .ok (.irem, 1) := by decide +kernel
theorem d_Mo_leap_83 : decode Y_Mo_leap.2.1 83 = .ok (.iadd, 1) := by decide +kernel
theorem d_Mo_leap_84 : decode Y_Mo_leap.2.1 84 = .ok (.ireturn, 1) := by decide +kernel
theorem d_Mo_ways_0 : decode Y_Mo_ways.2.1 0 = .ok (.aload_n 0, 1) := by decide +kernel
theorem d_Mo_ways_1 : decode Y_Mo_ways.2.1 1 = .ok (.iconst 0, 1) := by decide +kernel
theorem d_Mo_ways_2 : decode Y_Mo_ways.2.1 2 = .ok (.putfield 53, 3) := by decide +kernel
theorem d_Mo_ways_5 : decode Y_Mo_ways.2.1 5 = .ok (.aload_n 0, 1) := by decide +kernel
theorem d_Mo_ways_6 : decode Y_Mo_ways.2.1 6 = .ok (.iload_n 1, 1) := by decide +kernel
theorem d_Mo_ways_7 : decode Y_Mo_ways.2.1 7 = .ok (.iload_n 2, 1) := by decide +kernel
theorem d_Mo_ways_8 : decode Y_Mo_ways.2.1 8 = .ok (.iload_n 3, 1) := by decide +kernel
theorem d_Mo_ways_9 : decode Y_Mo_ways.2.1 9 = .ok (.invokevirtual 161, 3) := by decide +kernel
theorem d_Mo_ways_12 : decode Y_Mo_ways.2.1 12 = .ok (.ifCond .ne 9, 3) := by decide +kernel
theorem d_Mo_ways_15 : decode Y_Mo_ways.2.1 15 = .ok (.aload_n 0, 1) := by decide +kernel
theorem d_Mo_ways_16 : decode Y_Mo_ways.2.1 16 = .ok (.iconst 1, 1) := by decide +kernel
theorem d_Mo_ways_17 : decode Y_Mo_ways.2.1 17 = .ok (.invokevirtual 91, 3) := by decide +kernel
theorem d_Mo_ways_20 : decode Y_Mo_ways.2.1 20 = .ok (.ireturn, 1) := by decide +kernel
theorem d_Mo_ways_21 : decode Y_Mo_ways.2.1 21 = .ok (.aload_n 0, 1) := by decide +kernel
theorem d_Mo_ways_22 : decode Y_Mo_ways.2.1 22 = .ok (.invokevirtual 164, 3) := by decide +kernel
theorem d_Mo_ways_25 : decode Y_Mo_ways.2.1 25 = .ok (.iconst 0, 1) := by decide +kernel
theorem d_Mo_ways_26 : decode Y_Mo_ways.2.1 26 = .ok (.istore 4, 2) := by decide +kernel
theorem d_Mo_ways_28 : decode Y_Mo_ways.2.1 28 = .ok (.iconst 0, 1) := by decide +kernel
theorem d_Mo_ways_29 : decode Y_Mo_ways.2.1 29 = .ok (.istore 5, 2) := by decide +kernel
theorem d_Mo_ways_31 : decode Y_Mo_ways.2.1 31 = .ok (.iload 5, 2) := by decide +kernel
theorem d_Mo_ways_33 : decode Y_Mo_ways.2.1 33 = .ok (.aload_n 0, 1) := by decide +kernel
theorem d_Mo_ways_34 : decode Y_Mo_ways.2.1 34 = .ok (.getfield 73, 3) := by decide +kernel
theorem d_Mo_ways_37 : decode Y_Mo_ways.2.1 37 = .ok (.if_icmp .ge 37, 3) := by decide +kernel
theorem d_Mo_ways_40 : decode Y_Mo_ways.2.1 40 = .ok (.iload 4, 2) := by decide +kernel
theorem d_Mo_ways_42 : decode Y_Mo_ways.2.1 42 = .ok (.aload_n 0, 1) := by decide +kernel
theorem d_Mo_ways_43 : decode Y_Mo_ways.2.1 43 = .ok (.getfield 7, 3) := by decide +kernel
theorem d_Mo_ways_46 : decode Y_Mo_ways.2.1 46 = .ok (.iload 5, 2) := by decide +kernel
theorem d_Mo_ways_48 : decode Y_Mo_ways.2.1 48 = .ok (.iaload, 1) := by decide +kernel
theorem d_Mo_ways_49 : decode Y_Mo_ways.2.1 49 = .ok (.iload_n 1, 1) := by decide +kernel
theorem d_Mo_ways_50 : decode Y_Mo_ways.2.1 50 = .ok (.if_icmp .ne 14, 3) := by decide +kernel
theorem d_Mo_ways_53 : decode Y_Mo_ways.2.1 53 = .ok (.aload_n 0, 1) := by decide +kernel
theorem d_Mo_ways_54 : decode Y_Mo_ways.2.1 54 = .ok (.iload 5, 2) := by decide +kernel
theorem d_Mo_ways_56 : decode Y_Mo_ways.2.1 56 = .ok (.iload_n 2, 1) := by decide +kernel
theorem d_Mo_ways_57 : decode Y_Mo_ways.2.1 57 = .ok (.iload_n 3, 1) := by decide +kernel
theorem d_Mo_ways_58 : decode Y_Mo_ways.2.1 58 = .ok (.invokevirtual 140, 3) := by decide +kernel
theorem d_Mo_ways_61 : decode Y_Mo_ways.2.1 61 = .ok (.goto 4, 3) := by decide +kernel
theorem d_Mo_ways_64 : decode Y_Mo_ways.2.1 64 = .ok (.iconst 0, 1) := by decide +kernel
theorem d_Mo_ways_65 : decode Y_Mo_ways.2.1 65 = .ok (.iadd, 1) := by decide +kernel
theorem d_Mo_ways_66 : decode Y_Mo_ways.2.1 66 = .ok (.istore 4, 2) := by decide +kernel
theorem d_Mo_ways_68 : decode Y_Mo_ways.2.1 68 = .ok (.iinc 5 1, 3) := by decide +kernel
theorem d_Mo_ways_71 : decode Y_Mo_ways.2.1 71 = .ok (.goto (-40), 3) := by decide +kernel
theorem d_Mo_ways_74 : decode Y_Mo_ways.2.1 74 = .ok (.iload 4, 2) := by decide +kernel
theorem d_Mo_ways_76 : decode Y_Mo_ways.2.1 76 = .ok (.ireturn, 1) := by decide +kernel
theorem d_Mo_isStretch_0 : decode Y_Mo_isStretch.2.1 0 = .ok (.iload_n 1, 1) := by decide +kernel
theorem d_Mo_isStretch_1 : decode Y_Mo_isStretch.2.1 1 = .ok (.invokestatic 69, 3) := by decide +kernel
theorem d_Mo_isStretch_4 : decode Y_Mo_isStretch.2.1 4 = .ok (.ifCond .eq 24, 3) := by decide +kernel
theorem d_Mo_isStretch_7 : decode Y_Mo_isStretch.2.1 7 = .ok (.iload_n 2, 1) := by decide +kernel
theorem d_Mo_isStretch_8 : decode Y_Mo_isStretch.2.1 8 = .ok (.ifCond .lt 20, 3) := by decide +kernel
theorem d_Mo_isStretch_11 : decode Y_Mo_isStretch.2.1 11 = .ok (.iload_n 2, 1) := by decide +kernel
theorem d_Mo_isStretch_12 : decode Y_Mo_isStretch.2.1 12 = .ok (.iload_n 3, 1) := by decide +kernel
theorem d_Mo_isStretch_13 : decode Y_Mo_isStretch.2.1 13 = .ok (.if_icmp .gt 15, 3) := by decide +kernel
theorem d_Mo_isStretch_16 : decode Y_Mo_isStretch.2.1 16 = .ok (.iload_n 3, 1) := by decide +kernel
theorem d_Mo_isStretch_17 : decode Y_Mo_isStretch.2.1 17 = .ok (.aload_n 0, 1) := by decide +kernel
theorem d_Mo_isStretch_18 : decode Y_Mo_isStretch.2.1 18 = .ok (.getfield 97, 3) := by decide +kernel
theorem d_Mo_isStretch_21 : decode Y_Mo_isStretch.2.1 21 = .ok (.if_icmp .gt 7, 3) := by decide +kernel
theorem d_Mo_isStretch_24 : decode Y_Mo_isStretch.2.1 24 = .ok (.iconst 1, 1) := by decide +kernel
theorem d_Mo_isStretch_25 : decode Y_Mo_isStretch.2.1 25 = .ok (.goto 4, 3) := by decide +kernel
theorem d_Mo_isStretch_28 : decode Y_Mo_isStretch.2.1 28 = .ok (.iconst 0, 1) := by decide +kernel
theorem d_Mo_isStretch_29 : decode Y_Mo_isStretch.2.1 29 = .ok (.ireturn, 1) := by decide +kernel
theorem d_Mo_work_0 : decode Y_Mo_work.2.1 0 = .ok (.aload_n 0, 1) := by decide +kernel
theorem d_Mo_work_1 : decode Y_Mo_work.2.1 1 = .ok (.getfield 85, 3) := by decide +kernel
theorem d_Mo_work_4 : decode Y_Mo_work.2.1 4 = .ok (.ifCond .eq 4, 3) := by decide +kernel
theorem d_Mo_work_7 : decode Y_Mo_work.2.1 7 = .ok (.return_, 1) := by decide +kernel
theorem d_Mo_work_8 : decode Y_Mo_work.2.1 8 = .ok (.aload_n 0, 1) := by decide +kernel
theorem d_Mo_work_9 : decode Y_Mo_work.2.1 9 = .ok (.iconst 1, 1) := by decide +kernel
theorem d_Mo_work_10 : decode Y_Mo_work.2.1 10 = .ok (.putfield 85, 3) := by decide +kernel
theorem d_Mo_work_13 : decode Y_Mo_work.2.1 13 = .ok (.aload_n 0, 1) := by decide +kernel
theorem d_Mo_work_14 : decode Y_Mo_work.2.1 14 = .ok (.invokevirtual 155, 3) := by decide +kernel
theorem d_Mo_work_17 : decode Y_Mo_work.2.1 17 = .ok (.iconst 0, 1) := by decide +kernel
theorem d_Mo_work_18 : decode Y_Mo_work.2.1 18 = .ok (.istore_n 1, 1) := by decide +kernel
theorem d_Mo_work_19 : decode Y_Mo_work.2.1 19 = .ok (.iload_n 1, 1) := by decide +kernel
theorem d_Mo_work_20 : decode Y_Mo_work.2.1 20 = .ok (.sipush 845, 3) := by decide +kernel
theorem d_Mo_work_23 : decode Y_Mo_work.2.1 23 = .ok (.if_icmp .ge 16, 3) := by decide +kernel
theorem d_Mo_work_26 : decode Y_Mo_work.2.1 26 = .ok (.aload_n 0, 1) := by decide +kernel
theorem d_Mo_work_27 : decode Y_Mo_work.2.1 27 = .ok (.getfield 29, 3) := by decide +kernel
theorem d_Mo_work_30 : decode Y_Mo_work.2.1 30 = .ok (.iload_n 1, 1) := by decide +kernel
theorem d_Mo_work_31 : decode Y_Mo_work.2.1 31 = .ok (.iconst 0, 1) := by decide +kernel
theorem d_Mo_work_32 : decode Y_Mo_work.2.1 32 = .ok (.bastore, 1) := by decide +kernel
theorem d_Mo_work_33 : decode Y_Mo_work.2.1 33 = .ok (.iinc 1 1, 3) := by decide +kernel
theorem d_Mo_work_36 : decode Y_Mo_work.2.1 36 = .ok (.goto (-17), 3) := by decide +kernel
theorem d_Mo_work_39 : decode Y_Mo_work.2.1 39 = .ok (.iconst 1, 1) := by decide +kernel
theorem d_Mo_work_40 : decode Y_Mo_work.2.1 40 = .ok (.istore_n 1, 1) := by decide +kernel
theorem d_Mo_work_41 : decode Y_Mo_work.2.1 41 = .ok (.iload_n 1, 1) := by decide +kernel
theorem d_Mo_work_42 : decode Y_Mo_work.2.1 42 = .ok (.ifCond .eq 116, 3) := by decide +kernel
theorem d_Mo_work_45 : decode Y_Mo_work.2.1 45 = .ok (.iconst 0, 1) := by decide +kernel
theorem d_Mo_work_46 : decode Y_Mo_work.2.1 46 = .ok (.istore_n 1, 1) := by decide +kernel
theorem d_Mo_work_47 : decode Y_Mo_work.2.1 47 = .ok (.iconst 0, 1) := by decide +kernel
theorem d_Mo_work_48 : decode Y_Mo_work.2.1 48 = .ok (.istore_n 2, 1) := by decide +kernel
theorem d_Mo_work_49 : decode Y_Mo_work.2.1 49 = .ok (.iload_n 2, 1) := by decide +kernel
theorem d_Mo_work_50 : decode Y_Mo_work.2.1 50 = .ok (.iconst 5, 1) := by decide +kernel
theorem d_Mo_work_51 : decode Y_Mo_work.2.1 51 = .ok (.if_icmp .ge 104, 3) := by decide +kernel
theorem d_Mo_work_54 : decode Y_Mo_work.2.1 54 = .ok (.iconst 0, 1) := by decide +kernel
theorem d_Mo_work_55 : decode Y_Mo_work.2.1 55 = .ok (.istore_n 3, 1) := by decide +kernel
theorem d_Mo_work_56 : decode Y_Mo_work.2.1 56 = .ok (.iload_n 3, 1) := by decide +kernel
theorem d_Mo_work_57 : decode Y_Mo_work.2.1 57 = .ok (.aload_n 0, 1) := by decide +kernel
theorem d_Mo_work_58 : decode Y_Mo_work.2.1 58 = .ok (.getfield 97, 3) := by decide +kernel
theorem d_Mo_work_61 : decode Y_Mo_work.2.1 61 = .ok (.if_icmp .gt 88, 3) := by decide +kernel
theorem d_Mo_work_64 : decode Y_Mo_work.2.1 64 = .ok (.iload_n 3, 1) := by decide +kernel
theorem d_Mo_work_65 : decode Y_Mo_work.2.1 65 = .ok (.istore 4, 2) := by decide +kernel
theorem d_Mo_work_67 : decode Y_Mo_work.2.1 67 = .ok (.iload 4, 2) := by decide +kernel
theorem d_Mo_work_69 : decode Y_Mo_work.2.1 69 = .ok (.aload_n 0, 1) := by decide +kernel
theorem d_Mo_work_70 : decode Y_Mo_work.2.1 70 = .ok (.getfield 97, 3) := by decide +kernel
theorem d_Mo_work_73 : decode Y_Mo_work.2.1 73 = .ok (.if_icmp .gt 70, 3) := by decide +kernel
theorem d_Mo_work_76 : decode Y_Mo_work.2.1 76 = .ok (.iload_n 2, 1) := by decide +kernel
theorem d_Mo_work_77 : decode Y_Mo_work.2.1 77 = .ok (.iload_n 3, 1) := by decide +kernel
theorem d_Mo_work_78 : decode Y_Mo_work.2.1 78 = .ok (.iload 4, 2) := by decide +kernel
theorem d_Mo_work_80 : decode Y_Mo_work.2.1 80 = .ok (.invokestatic 113, 3) := by decide +kernel
theorem d_Mo_work_83 : decode Y_Mo_work.2.1 83 = .ok (.istore 5, 2) := by decide +kernel
theorem d_Mo_work_85 : decode Y_Mo_work.2.1 85 = .ok (.aload_n 0, 1) := by decide +kernel
theorem d_Mo_work_86 : decode Y_Mo_work.2.1 86 = .ok (.getfield 29, 3) := by decide +kernel
theorem d_Mo_work_89 : decode Y_Mo_work.2.1 89 = .ok (.iload 5, 2) := by decide +kernel
theorem d_Mo_work_91 : decode Y_Mo_work.2.1 91 = .ok (.baload, 1) := by decide +kernel
theorem d_Mo_work_92 : decode Y_Mo_work.2.1 92 = .ok (.ifCond .eq 9, 3) := by decide +kernel
theorem d_Mo_work_95 : decode Y_Mo_work.2.1 95 = .ok (.ldc2_w 145, 3) := by decide +kernel
theorem d_Mo_work_98 : decode Y_Mo_work.2.1 98 = .ok (.goto 11, 3) := by decide +kernel
theorem d_Mo_work_101 : decode Y_Mo_work.2.1 101 = .ok (.aload_n 0, 1) := by decide +kernel
theorem d_Mo_work_102 : decode Y_Mo_work.2.1 102 = .ok (.iload_n 2, 1) := by decide +kernel
theorem d_Mo_work_103 : decode Y_Mo_work.2.1 103 = .ok (.iload_n 3, 1) := by decide +kernel
theorem d_Mo_work_104 : decode Y_Mo_work.2.1 104 = .ok (.iload 4, 2) := by decide +kernel
theorem d_Mo_work_106 : decode Y_Mo_work.2.1 106 = .ok (.invokevirtual 158, 3) := by decide +kernel
theorem d_Mo_work_109 : decode Y_Mo_work.2.1 109 = .ok (.lstore 6, 2) := by decide +kernel
theorem d_Mo_work_111 : decode Y_Mo_work.2.1 111 = .ok (.lload 6, 2) := by decide +kernel
theorem d_Mo_work_113 : decode Y_Mo_work.2.1 113 = .ok (.lconst 0, 1) := by decide +kernel
theorem d_Mo_work_114 : decode Y_Mo_work.2.1 114 = .ok (.lcmp, 1) := by decide +kernel
theorem d_Mo_work_115 : decode Y_Mo_work.2.1 115 = .ok (.ifCond .lt 22, 3) := by decide +kernel
theorem d_Mo_work_118 : decode Y_Mo_work.2.1 118 = .ok (.aload_n 0, 1) := by decide +kernel
theorem d_Mo_work_119 : decode Y_Mo_work.2.1 119 = .ok (.getfield 29, 3) := by decide +kernel
theorem d_Mo_work_122 : decode Y_Mo_work.2.1 122 = .ok (.iload 5, 2) := by decide +kernel
theorem d_Mo_work_124 : decode Y_Mo_work.2.1 124 = .ok (.iconst 1, 1) := by decide +kernel
theorem d_Mo_work_125 : decode Y_Mo_work.2.1 125 = .ok (.bastore, 1) := by decide +kernel
theorem d_Mo_work_126 : decode Y_Mo_work.2.1 126 = .ok (.aload_n 0, 1) := by decide +kernel
theorem d_Mo_work_127 : decode Y_Mo_work.2.1 127 = .ok (.getfield 32, 3) := by decide +kernel
theorem d_Mo_work_130 : decode Y_Mo_work.2.1 130 = .ok (.iload 5, 2) := by decide +kernel
theorem d_Mo_work_132 : decode Y_Mo_work.2.1 132 = .ok (.lload 6, 2) := by decide +kernel
theorem d_Mo_work_134 : decode Y_Mo_work.2.1 134 = .ok (.lastore, 1) := by decide +kernel
theorem d_Mo_work_135 : decode Y_Mo_work.2.1 135 = .ok (.iconst 1, 1) := by decide +kernel
theorem d_Mo_work_136 : decode Y_Mo_work.2.1 136 = .ok (.istore_n 1, 1) := by decide +kernel
theorem d_Mo_work_137 : decode Y_Mo_work.2.1 137 = .ok (.iinc 4 1, 3) := by decide +kernel
theorem d_Mo_work_140 : decode Y_Mo_work.2.1 140 = .ok (.goto (-73), 3) := by decide +kernel
theorem d_Mo_work_143 : decode Y_Mo_work.2.1 143 = .ok (.iinc 3 1, 3) := by decide +kernel
theorem d_Mo_work_146 : decode Y_Mo_work.2.1 146 = .ok (.goto (-90), 3) := by decide +kernel
theorem d_Mo_work_149 : decode Y_Mo_work.2.1 149 = .ok (.iinc 2 1, 3) := by decide +kernel
theorem d_Mo_work_152 : decode Y_Mo_work.2.1 152 = .ok (.goto (-103), 3) := by decide +kernel
theorem d_Mo_work_155 : decode Y_Mo_work.2.1 155 = .ok (.goto (-114), 3) := by decide +kernel
theorem d_Mo_work_158 : decode Y_Mo_work.2.1 158 = .ok (.return_, 1) := by decide +kernel
theorem d_Mo_findDerived_0 : decode Y_Mo_findDerived.2.1 0 = .ok (.iconst 0, 1) := by decide +kernel
theorem d_Mo_findDerived_1 : decode Y_Mo_findDerived.2.1 1 = .ok (.istore_n 1, 1) := by decide +kernel
theorem d_Mo_findDerived_2 : decode Y_Mo_findDerived.2.1 2 = .ok (.iload_n 1, 1) := by decide +kernel
theorem d_Mo_findDerived_3 : decode Y_Mo_findDerived.2.1 3 = .ok (.sipush 845, 3) := by decide +kernel
theorem d_Mo_findDerived_6 : decode Y_Mo_findDerived.2.1 6 = .ok (.if_icmp .ge 16, 3) := by decide +kernel
theorem d_Mo_findDerived_9 : decode Y_Mo_findDerived.2.1 9 = .ok (.aload_n 0, 1) := by decide +kernel
theorem d_Mo_findDerived_10 : decode Y_Mo_findDerived.2.1 10 = .ok (.getfield 26, 3) := by decide +kernel
theorem d_Mo_findDerived_13 : decode Y_Mo_findDerived.2.1 13 = .ok (.iload_n 1, 1) := by decide +kernel
theorem d_Mo_findDerived_14 : decode Y_Mo_findDerived.2.1 14 = .ok (.iconst 0, 1) := by decide +kernel
theorem d_Mo_findDerived_15 : decode Y_Mo_findDerived.2.1 15 = .ok (.bastore, 1) := by decide +kernel
theorem d_Mo_findDerived_16 : decode Y_Mo_findDerived.2.1 16 = .ok (.iinc 1 1, 3) := by decide +kernel
theorem d_Mo_findDerived_19 : decode Y_Mo_findDerived.2.1 19 = .ok (.goto (-17), 3) := by decide +kernel
theorem d_Mo_findDerived_22 : decode Y_Mo_findDerived.2.1 22 = .ok (.iconst 1, 1) := by decide +kernel
theorem d_Mo_findDerived_23 : decode Y_Mo_findDerived.2.1 23 = .ok (.istore_n 1, 1) := by decide +kernel
theorem d_Mo_findDerived_24 : decode Y_Mo_findDerived.2.1 24 = .ok (.iload_n 1, 1) := by decide +kernel
theorem d_Mo_findDerived_25 : decode Y_Mo_findDerived.2.1 25 = .ok (.ifCond .eq 103, 3) := by decide +kernel
theorem d_Mo_findDerived_28 : decode Y_Mo_findDerived.2.1 28 = .ok (.iconst 0, 1) := by decide +kernel
theorem d_Mo_findDerived_29 : decode Y_Mo_findDerived.2.1 29 = .ok (.istore_n 1, 1) := by decide +kernel
theorem d_Mo_findDerived_30 : decode Y_Mo_findDerived.2.1 30 = .ok (.iconst 0, 1) := by decide +kernel
theorem d_Mo_findDerived_31 : decode Y_Mo_findDerived.2.1 31 = .ok (.istore_n 2, 1) := by decide +kernel
theorem d_Mo_findDerived_32 : decode Y_Mo_findDerived.2.1 32 = .ok (.iload_n 2, 1) := by decide +kernel
theorem d_Mo_findDerived_33 : decode Y_Mo_findDerived.2.1 33 = .ok (.aload_n 0, 1) := by decide +kernel
theorem d_Mo_findDerived_34 : decode Y_Mo_findDerived.2.1 34 = .ok (.getfield 73, 3) := by decide +kernel
theorem d_Mo_findDerived_37 : decode Y_Mo_findDerived.2.1 37 = .ok (.if_icmp .ge 88, 3) := by decide +kernel
theorem d_Mo_findDerived_40 : decode Y_Mo_findDerived.2.1 40 = .ok (.iconst 0, 1) := by decide +kernel
theorem d_Mo_findDerived_41 : decode Y_Mo_findDerived.2.1 41 = .ok (.istore_n 3, 1) := by decide +kernel
theorem d_Mo_findDerived_42 : decode Y_Mo_findDerived.2.1 42 = .ok (.iload_n 3, 1) := by decide +kernel
theorem d_Mo_findDerived_43 : decode Y_Mo_findDerived.2.1 43 = .ok (.aload_n 0, 1) := by decide +kernel
theorem d_Mo_findDerived_44 : decode Y_Mo_findDerived.2.1 44 = .ok (.getfield 97, 3) := by decide +kernel
theorem d_Mo_findDerived_47 : decode Y_Mo_findDerived.2.1 47 = .ok (.if_icmp .gt 72, 3) := by decide +kernel
theorem d_Mo_findDerived_50 : decode Y_Mo_findDerived.2.1 50 = .ok (.iload_n 3, 1) := by decide +kernel
theorem d_Mo_findDerived_51 : decode Y_Mo_findDerived.2.1 51 = .ok (.istore 4, 2) := by decide +kernel
theorem d_Mo_findDerived_53 : decode Y_Mo_findDerived.2.1 53 = .ok (.iload 4, 2) := by decide +kernel
theorem d_Mo_findDerived_55 : decode Y_Mo_findDerived.2.1 55 = .ok (.aload_n 0, 1) := by decide +kernel
theorem d_Mo_findDerived_56 : decode Y_Mo_findDerived.2.1 56 = .ok (.getfield 97, 3) := by decide +kernel
theorem d_Mo_findDerived_59 : decode Y_Mo_findDerived.2.1 59 = .ok (.if_icmp .gt 54, 3) := by decide +kernel
theorem d_Mo_findDerived_62 : decode Y_Mo_findDerived.2.1 62 = .ok (.aload_n 0, 1) := by decide +kernel
theorem d_Mo_findDerived_63 : decode Y_Mo_findDerived.2.1 63 = .ok (.getfield 7, 3) := by decide +kernel
theorem d_Mo_findDerived_66 : decode Y_Mo_findDerived.2.1 66 = .ok (.iload_n 2, 1) := by decide +kernel
theorem d_Mo_findDerived_67 : decode Y_Mo_findDerived.2.1 67 = .ok (.iaload, 1) := by decide +kernel
theorem d_Mo_findDerived_68 : decode Y_Mo_findDerived.2.1 68 = .ok (.iload_n 3, 1) := by decide +kernel
theorem d_Mo_findDerived_69 : decode Y_Mo_findDerived.2.1 69 = .ok (.iload 4, 2) := by decide +kernel
theorem d_Mo_findDerived_71 : decode Y_Mo_findDerived.2.1 71 = .ok (.invokestatic 113, 3) := by decide +kernel
theorem d_Mo_findDerived_74 : decode Y_Mo_findDerived.2.1 74 = .ok (.istore 5, 2) := by decide +kernel
theorem d_Mo_findDerived_76 : decode Y_Mo_findDerived.2.1 76 = .ok (.aload_n 0, 1) := by decide +kernel
theorem d_Mo_findDerived_77 : decode Y_Mo_findDerived.2.1 77 = .ok (.getfield 26, 3) := by decide +kernel
theorem d_Mo_findDerived_80 : decode Y_Mo_findDerived.2.1 80 = .ok (.iload 5, 2) := by decide +kernel
theorem d_Mo_findDerived_82 : decode Y_Mo_findDerived.2.1 82 = .ok (.baload, 1) := by decide +kernel
theorem d_Mo_findDerived_83 : decode Y_Mo_findDerived.2.1 83 = .ok (.ifCond .ne 24, 3) := by decide +kernel
theorem d_Mo_findDerived_86 : decode Y_Mo_findDerived.2.1 86 = .ok (.aload_n 0, 1) := by decide +kernel
theorem d_Mo_findDerived_87 : decode Y_Mo_findDerived.2.1 87 = .ok (.iload_n 2, 1) := by decide +kernel
theorem d_Mo_findDerived_88 : decode Y_Mo_findDerived.2.1 88 = .ok (.iload_n 3, 1) := by decide +kernel
theorem d_Mo_findDerived_89 : decode Y_Mo_findDerived.2.1 89 = .ok (.iload 4, 2) := by decide +kernel
theorem d_Mo_findDerived_91 : decode Y_Mo_findDerived.2.1 91 = .ok (.invokevirtual 140, 3) := by decide +kernel
theorem d_Mo_findDerived_94 : decode Y_Mo_findDerived.2.1 94 = .ok (.ifCond .le 13, 3) := by decide +kernel
theorem d_Mo_findDerived_97 : decode Y_Mo_findDerived.2.1 97 = .ok (.aload_n 0, 1) := by decide +kernel
theorem d_Mo_findDerived_98 : decode Y_Mo_findDerived.2.1 98 = .ok (.getfield 26, 3) := by decide +kernel
theorem d_Mo_findDerived_101 : decode Y_Mo_findDerived.2.1 101 = .ok (.iload 5, 2) := by decide +kernel
theorem d_Mo_findDerived_103 : decode Y_Mo_findDerived.2.1 103 = .ok (.iconst 1, 1) := by decide +kernel
theorem d_Mo_findDerived_104 : decode Y_Mo_findDerived.2.1 104 = .ok (.bastore, 1) := by decide +kernel
theorem d_Mo_findDerived_105 : decode Y_Mo_findDerived.2.1 105 = .ok (.iconst 1, 1) := by decide +kernel
theorem d_Mo_findDerived_106 : decode Y_Mo_findDerived.2.1 106 = .ok (.istore_n 1, 1) := by decide +kernel
theorem d_Mo_findDerived_107 : decode Y_Mo_findDerived.2.1 107 = .ok (.iinc 4 1, 3) := by decide +kernel
theorem d_Mo_findDerived_110 : decode Y_Mo_findDerived.2.1 110 = .ok (.goto (-57), 3) := by decide +kernel
theorem d_Mo_findDerived_113 : decode Y_Mo_findDerived.2.1 113 = .ok (.iinc 3 1, 3) := by decide +kernel
theorem d_Mo_findDerived_116 : decode Y_Mo_findDerived.2.1 116 = .ok (.goto (-74), 3) := by decide +kernel
theorem d_Mo_findDerived_119 : decode Y_Mo_findDerived.2.1 119 = .ok (.iinc 2 1, 3) := by decide +kernel
theorem d_Mo_findDerived_122 : decode Y_Mo_findDerived.2.1 122 = .ok (.goto (-90), 3) := by decide +kernel
theorem d_Mo_findDerived_125 : decode Y_Mo_findDerived.2.1 125 = .ok (.goto (-101), 3) := by decide +kernel
theorem d_Mo_findDerived_128 : decode Y_Mo_findDerived.2.1 128 = .ok (.return_, 1) := by decide +kernel
theorem d_Mo_node_0 : decode Y_Mo_node.2.1 0 = .ok (.sipush 169, 3) := by decide +kernel
theorem d_Mo_node_3 : decode Y_Mo_node.2.1 3 = .ok (.iload_n 0, 1) := by decide +kernel
theorem d_Mo_node_4 : decode Y_Mo_node.2.1 4 = .ok (.imul, 1) := by decide +kernel
theorem d_Mo_node_5 : decode Y_Mo_node.2.1 5 = .ok (.bipush 13, 2) := by decide +kernel
theorem d_Mo_node_7 : decode Y_Mo_node.2.1 7 = .ok (.iload_n 1, 1) := by decide +kernel
theorem d_Mo_node_8 : decode Y_Mo_node.2.1 8 = .ok (.imul, 1) := by decide +kernel
theorem d_Mo_node_9 : decode Y_Mo_node.2.1 9 = .ok (.iadd, 1) := by decide +kernel
theorem d_Mo_node_10 : decode Y_Mo_node.2.1 10 = .ok (.iload_n 2, 1) := by decide +kernel
theorem d_Mo_node_11 : decode Y_Mo_node.2.1 11 = .ok (.iadd, 1) := by decide +kernel
theorem d_Mo_node_12 : decode Y_Mo_node.2.1 12 = .ok (.ireturn, 1) := by decide +kernel
theorem d_Mo_waysBy_0 : decode Y_Mo_waysBy.2.1 0 = .ok (.iconst 0, 1) := by decide +kernel
theorem d_Mo_waysBy_1 : decode Y_Mo_waysBy.2.1 1 = .ok (.istore 4, 2) := by decide +kernel
theorem d_Mo_waysBy_3 : decode Y_Mo_waysBy.2.1 3 = .ok (.iconst 1, 1) := by decide +kernel
theorem d_Mo_waysBy_4 : decode Y_Mo_waysBy.2.1 4 = .ok (.istore 5, 2) := by decide +kernel
theorem d_Mo_waysBy_6 : decode Y_Mo_waysBy.2.1 6 = .ok (.aload_n 0, 1) := by decide +kernel
theorem d_Mo_waysBy_7 : decode Y_Mo_waysBy.2.1 7 = .ok (.iload_n 2, 1) := by decide +kernel
theorem d_Mo_waysBy_8 : decode Y_Mo_waysBy.2.1 8 = .ok (.invokevirtual 130, 3) := by decide +kernel
theorem d_Mo_waysBy_11 : decode Y_Mo_waysBy.2.1 11 = .ok (.iload 5, 2) := by decide +kernel
theorem d_Mo_waysBy_13 : decode Y_Mo_waysBy.2.1 13 = .ok (.ifCond .eq 34, 3) := by decide +kernel
theorem d_Mo_waysBy_16 : decode Y_Mo_waysBy.2.1 16 = .ok (.iload 4, 2) := by decide +kernel
theorem d_Mo_waysBy_18 : decode Y_Mo_waysBy.2.1 18 = .ok (.aload_n 0, 1) := by decide +kernel
theorem d_Mo_waysBy_19 : decode Y_Mo_waysBy.2.1 19 = .ok (.iload_n 1, 1) := by decide +kernel
theorem d_Mo_waysBy_20 : decode Y_Mo_waysBy.2.1 20 = .ok (.iload_n 2, 1) := by decide +kernel
theorem d_Mo_waysBy_21 : decode Y_Mo_waysBy.2.1 21 = .ok (.iload_n 3, 1) := by decide +kernel
theorem d_Mo_waysBy_22 : decode Y_Mo_waysBy.2.1 22 = .ok (.invokevirtual 133, 3) := by decide +kernel
theorem d_Mo_waysBy_25 : decode Y_Mo_waysBy.2.1 25 = .ok (.ifCond .eq 7, 3) := by decide +kernel
theorem d_Mo_waysBy_28 : decode Y_Mo_waysBy.2.1 28 = .ok (.iconst 1, 1) := by decide +kernel
theorem d_Mo_waysBy_29 : decode Y_Mo_waysBy.2.1 29 = .ok (.goto 4, 3) := by decide +kernel
theorem d_Mo_waysBy_32 : decode Y_Mo_waysBy.2.1 32 = .ok (.iconst 0, 1) := by decide +kernel
theorem d_Mo_waysBy_33 : decode Y_Mo_waysBy.2.1 33 = .ok (.iadd, 1) := by decide +kernel
theorem d_Mo_waysBy_34 : decode Y_Mo_waysBy.2.1 34 = .ok (.istore 4, 2) := by decide +kernel
theorem d_Mo_waysBy_36 : decode Y_Mo_waysBy.2.1 36 = .ok (.aload_n 0, 1) := by decide +kernel
theorem d_Mo_waysBy_37 : decode Y_Mo_waysBy.2.1 37 = .ok (.iload_n 1, 1) := by decide +kernel
theorem d_Mo_waysBy_38 : decode Y_Mo_waysBy.2.1 38 = .ok (.iload_n 3, 1) := by decide +kernel
theorem d_Mo_waysBy_39 : decode Y_Mo_waysBy.2.1 39 = .ok (.invokevirtual 136, 3) := by decide +kernel
theorem d_Mo_waysBy_42 : decode Y_Mo_waysBy.2.1 42 = .ok (.istore 5, 2) := by decide +kernel
theorem d_Mo_waysBy_44 : decode Y_Mo_waysBy.2.1 44 = .ok (.goto (-33), 3) := by decide +kernel
theorem d_Mo_waysBy_47 : decode Y_Mo_waysBy.2.1 47 = .ok (.iload 4, 2) := by decide +kernel
theorem d_Mo_waysBy_49 : decode Y_Mo_waysBy.2.1 49 = .ok (.ireturn, 1) := by decide +kernel
theorem d_Mo_firstCuts_0 : decode Y_Mo_firstCuts.2.1 0 = .ok (.aload_n 0, 1) := by decide +kernel
theorem d_Mo_firstCuts_1 : decode Y_Mo_firstCuts.2.1 1 = .ok (.iload_n 1, 1) := by decide +kernel
theorem d_Mo_firstCuts_2 : decode Y_Mo_firstCuts.2.1 2 = .ok (.putfield 117, 3) := by decide +kernel
theorem d_Mo_firstCuts_5 : decode Y_Mo_firstCuts.2.1 5 = .ok (.aload_n 0, 1) := by decide +kernel
theorem d_Mo_firstCuts_6 : decode Y_Mo_firstCuts.2.1 6 = .ok (.iload_n 1, 1) := by decide +kernel
theorem d_Mo_firstCuts_7 : decode Y_Mo_firstCuts.2.1 7 = .ok (.putfield 120, 3) := by decide +kernel
theorem d_Mo_firstCuts_10 : decode Y_Mo_firstCuts.2.1 10 = .ok (.return_, 1) := by decide +kernel
theorem d_Mo_isWay_0 : decode Y_Mo_isWay.2.1 0 = .ok (.aload_n 0, 1) := by decide +kernel
theorem d_Mo_isWay_1 : decode Y_Mo_isWay.2.1 1 = .ok (.getfield 13, 3) := by decide +kernel
theorem d_Mo_isWay_4 : decode Y_Mo_isWay.2.1 4 = .ok (.iload_n 1, 1) := by decide +kernel
theorem d_Mo_isWay_5 : decode Y_Mo_isWay.2.1 5 = .ok (.iaload, 1) := by decide +kernel
theorem d_Mo_isWay_6 : decode Y_Mo_isWay.2.1 6 = .ok (.ifCond .ne 14, 3) := by decide +kernel
theorem d_Mo_isWay_9 : decode Y_Mo_isWay.2.1 9 = .ok (.iload_n 2, 1) := by decide +kernel
theorem d_Mo_isWay_10 : decode Y_Mo_isWay.2.1 10 = .ok (.iload_n 3, 1) := by decide +kernel
theorem d_Mo_isWay_11 : decode Y_Mo_isWay.2.1 11 = .ok (.if_icmp .ne 7, 3) := by decide +kernel
theorem d_Mo_isWay_14 : decode Y_Mo_isWay.2.1 14 = .ok (.iconst 1, 1) := by decide +kernel
theorem d_Mo_isWay_15 : decode Y_Mo_isWay.2.1 15 = .ok (.goto 4, 3) := by decide +kernel
theorem d_Mo_isWay_18 : decode Y_Mo_isWay.2.1 18 = .ok (.iconst 0, 1) := by decide +kernel
theorem d_Mo_isWay_19 : decode Y_Mo_isWay.2.1 19 = .ok (.ireturn, 1) := by decide +kernel
theorem d_Mo_isWay_20 : decode Y_Mo_isWay.2.1 20 = .ok (.iconst 1, 1) := by decide +kernel
theorem d_Mo_isWay_21 : decode Y_Mo_isWay.2.1 21 = .ok (.istore 4, 2) := by decide +kernel
theorem d_Mo_isWay_23 : decode Y_Mo_isWay.2.1 23 = .ok (.iconst 0, 1) := by decide +kernel
theorem d_Mo_isWay_24 : decode Y_Mo_isWay.2.1 24 = .ok (.istore 5, 2) := by decide +kernel
theorem d_Mo_isWay_26 : decode Y_Mo_isWay.2.1 26 = .ok (.iload 5, 2) := by decide +kernel
theorem d_Mo_isWay_28 : decode Y_Mo_isWay.2.1 28 = .ok (.aload_n 0, 1) := by decide +kernel
theorem d_Mo_isWay_29 : decode Y_Mo_isWay.2.1 29 = .ok (.getfield 13, 3) := by decide +kernel
theorem d_Mo_isWay_32 : decode Y_Mo_isWay.2.1 32 = .ok (.iload_n 1, 1) := by decide +kernel
theorem d_Mo_isWay_33 : decode Y_Mo_isWay.2.1 33 = .ok (.iaload, 1) := by decide +kernel
theorem d_Mo_isWay_34 : decode Y_Mo_isWay.2.1 34 = .ok (.if_icmp .ge 74, 3) := by decide +kernel
theorem d_Mo_isWay_37 : decode Y_Mo_isWay.2.1 37 = .ok (.aload_n 0, 1) := by decide +kernel
theorem d_Mo_isWay_38 : decode Y_Mo_isWay.2.1 38 = .ok (.iload_n 1, 1) := by decide +kernel
theorem d_Mo_isWay_39 : decode Y_Mo_isWay.2.1 39 = .ok (.iload 5, 2) := by decide +kernel
theorem d_Mo_isWay_41 : decode Y_Mo_isWay.2.1 41 = .ok (.iload_n 2, 1) := by decide +kernel
theorem d_Mo_isWay_42 : decode Y_Mo_isWay.2.1 42 = .ok (.iload_n 3, 1) := by decide +kernel
theorem d_Mo_isWay_43 : decode Y_Mo_isWay.2.1 43 = .ok (.invokevirtual 123, 3) := by decide +kernel
theorem d_Mo_isWay_46 : decode Y_Mo_isWay.2.1 46 = .ok (.istore 6, 2) := by decide +kernel
theorem d_Mo_isWay_48 : decode Y_Mo_isWay.2.1 48 = .ok (.aload_n 0, 1) := by decide +kernel
theorem d_Mo_isWay_49 : decode Y_Mo_isWay.2.1 49 = .ok (.iload_n 1, 1) := by decide +kernel
theorem d_Mo_isWay_50 : decode Y_Mo_isWay.2.1 50 = .ok (.iload 5, 2) := by decide +kernel
theorem d_Mo_isWay_52 : decode Y_Mo_isWay.2.1 52 = .ok (.iconst 1, 1) := by decide +kernel
theorem d_Mo_isWay_53 : decode Y_Mo_isWay.2.1 53 = .ok (.iadd, 1) := by decide +kernel
theorem d_Mo_isWay_54 : decode Y_Mo_isWay.2.1 54 = .ok (.iload_n 2, 1) := by decide +kernel
theorem d_Mo_isWay_55 : decode Y_Mo_isWay.2.1 55 = .ok (.iload_n 3, 1) := by decide +kernel
theorem d_Mo_isWay_56 : decode Y_Mo_isWay.2.1 56 = .ok (.invokevirtual 123, 3) := by decide +kernel
theorem d_Mo_isWay_59 : decode Y_Mo_isWay.2.1 59 = .ok (.istore 7, 2) := by decide +kernel
theorem d_Mo_isWay_61 : decode Y_Mo_isWay.2.1 61 = .ok (.iload 4, 2) := by decide +kernel
theorem d_Mo_isWay_63 : decode Y_Mo_isWay.2.1 63 = .ok (.ifCond .eq 36, 3) := by decide +kernel
theorem d_Mo_isWay_66 : decode Y_Mo_isWay.2.1 66 = .ok (.iload 6, 2) := by decide +kernel
theorem d_Mo_isWay_68 : decode Y_Mo_isWay.2.1 68 = .ok (.iload 7, 2) := by decide +kernel
theorem d_Mo_isWay_70 : decode Y_Mo_isWay.2.1 70 = .ok (.if_icmp .gt 29, 3) := by decide +kernel
theorem d_Mo_isWay_73 : decode Y_Mo_isWay.2.1 73 = .ok (.aload_n 0, 1) := by decide +kernel
theorem d_Mo_isWay_74 : decode Y_Mo_isWay.2.1 74 = .ok (.aload_n 0, 1) := by decide +kernel
theorem d_Mo_isWay_75 : decode Y_Mo_isWay.2.1 75 = .ok (.getfield 16, 3) := by decide +kernel
theorem d_Mo_isWay_78 : decode Y_Mo_isWay.2.1 78 = .ok (.iconst 3, 1) := by decide +kernel
theorem d_Mo_isWay_79 : decode Y_Mo_isWay.2.1 79 = .ok (.iload_n 1, 1) := by decide +kernel
theorem d_Mo_isWay_80 : decode Y_Mo_isWay.2.1 80 = .ok (.imul, 1) := by decide +kernel
theorem d_Mo_isWay_81 : decode Y_Mo_isWay.2.1 81 = .ok (.iload 5, 2) := by decide +kernel
theorem d_Mo_isWay_83 : decode Y_Mo_isWay.2.1 83 = .ok (.iadd, 1) := by decide +kernel
theorem d_Mo_isWay_84 : decode Y_Mo_isWay.2.1 84 = .ok (.iaload, 1) := by decide +kernel
theorem d_Mo_isWay_85 : decode Y_Mo_isWay.2.1 85 = .ok (.iload 6, 2) := by decide +kernel
theorem d_Mo_isWay_87 : decode Y_Mo_isWay.2.1 87 = .ok (.iload 7, 2) := by decide +kernel
theorem d_Mo_isWay_89 : decode Y_Mo_isWay.2.1 89 = .ok (.invokevirtual 126, 3) := by decide +kernel
theorem d_Mo_isWay_92 : decode Y_Mo_isWay.2.1 92 = .ok (.ifCond .eq 7, 3) := by decide +kernel
theorem d_Mo_isWay_95 : decode Y_Mo_isWay.2.1 95 = .ok (.iconst 1, 1) := by decide +kernel
theorem d_Mo_isWay_96 : decode Y_Mo_isWay.2.1 96 = .ok (.goto 4, 3) := by decide +kernel
theorem d_Mo_isWay_99 : decode Y_Mo_isWay.2.1 99 = .ok (.iconst 0, 1) := by decide +kernel
theorem d_Mo_isWay_100 : decode Y_Mo_isWay.2.1 100 = .ok (.istore 4, 2) := by decide +kernel
theorem d_Mo_isWay_102 : decode Y_Mo_isWay.2.1 102 = .ok (.iinc 5 1, 3) := by decide +kernel
theorem d_Mo_isWay_105 : decode Y_Mo_isWay.2.1 105 = .ok (.goto (-79), 3) := by decide +kernel
theorem d_Mo_isWay_108 : decode Y_Mo_isWay.2.1 108 = .ok (.iload 4, 2) := by decide +kernel
theorem d_Mo_isWay_110 : decode Y_Mo_isWay.2.1 110 = .ok (.ireturn, 1) := by decide +kernel
theorem d_Mo_cut_0 : decode Y_Mo_cut.2.1 0 = .ok (.iload_n 2, 1) := by decide +kernel
theorem d_Mo_cut_1 : decode Y_Mo_cut.2.1 1 = .ok (.ifCond .ne 7, 3) := by decide +kernel
theorem d_Mo_cut_4 : decode Y_Mo_cut.2.1 4 = .ok (.iload_n 3, 1) := by decide +kernel
theorem d_Mo_cut_5 : decode Y_Mo_cut.2.1 5 = .ok (.goto 34, 3) := by decide +kernel
theorem d_Mo_cut_8 : decode Y_Mo_cut.2.1 8 = .ok (.iload_n 2, 1) := by decide +kernel
theorem d_Mo_cut_9 : decode Y_Mo_cut.2.1 9 = .ok (.aload_n 0, 1) := by decide +kernel
theorem d_Mo_cut_10 : decode Y_Mo_cut.2.1 10 = .ok (.getfield 13, 3) := by decide +kernel
theorem d_Mo_cut_13 : decode Y_Mo_cut.2.1 13 = .ok (.iload_n 1, 1) := by decide +kernel
theorem d_Mo_cut_14 : decode Y_Mo_cut.2.1 14 = .ok (.iaload, 1) := by decide +kernel
theorem d_Mo_cut_15 : decode Y_Mo_cut.2.1 15 = .ok (.if_icmp .ne 8, 3) := by decide +kernel
theorem d_Mo_cut_18 : decode Y_Mo_cut.2.1 18 = .ok (.iload 4, 2) := by decide +kernel
theorem d_Mo_cut_20 : decode Y_Mo_cut.2.1 20 = .ok (.goto 19, 3) := by decide +kernel
theorem d_Mo_cut_23 : decode Y_Mo_cut.2.1 23 = .ok (.iload_n 2, 1) := by decide +kernel
theorem d_Mo_cut_24 : decode Y_Mo_cut.2.1 24 = .ok (.iconst 1, 1) := by decide +kernel
theorem d_Mo_cut_25 : decode Y_Mo_cut.2.1 25 = .ok (.if_icmp .ne 10, 3) := by decide +kernel
theorem d_Mo_cut_28 : decode Y_Mo_cut.2.1 28 = .ok (.aload_n 0, 1) := by decide +kernel
theorem d_Mo_cut_29 : decode Y_Mo_cut.2.1 29 = .ok (.getfield 117, 3) := by decide +kernel
theorem d_Mo_cut_32 : decode Y_Mo_cut.2.1 32 = .ok (.goto 7, 3) := by decide +kernel
theorem d_Mo_cut_35 : decode Y_Mo_cut.2.1 35 = .ok (.aload_n 0, 1) := by decide +kernel
theorem d_Mo_cut_36 : decode Y_Mo_cut.2.1 36 = .ok (.getfield 120, 3) := by decide +kernel
theorem d_Mo_cut_39 : decode Y_Mo_cut.2.1 39 = .ok (.ireturn, 1) := by decide +kernel
theorem d_Mo_isDerived_0 : decode Y_Mo_isDerived.2.1 0 = .ok (.iload_n 1, 1) := by decide +kernel
theorem d_Mo_isDerived_1 : decode Y_Mo_isDerived.2.1 1 = .ok (.bipush 8, 2) := by decide +kernel
theorem d_Mo_isDerived_3 : decode Y_Mo_isDerived.2.1 3 = .ok (.if_icmp .lt 28, 3) := by decide +kernel
theorem d_Mo_isDerived_6 : decode Y_Mo_isDerived.2.1 6 = .ok (.iload_n 3, 1) := by decide +kernel
theorem d_Mo_isDerived_7 : decode Y_Mo_isDerived.2.1 7 = .ok (.iload_n 2, 1) := by decide +kernel
theorem d_Mo_isDerived_8 : decode Y_Mo_isDerived.2.1 8 = .ok (.iconst 1, 1) := by decide +kernel
theorem d_Mo_isDerived_9 : decode Y_Mo_isDerived.2.1 9 = .ok (.iadd, 1) := by decide +kernel
theorem d_Mo_isDerived_10 : decode Y_Mo_isDerived.2.1 10 = .ok (.if_icmp .ne 17, 3) := by decide +kernel
theorem d_Mo_isDerived_13 : decode Y_Mo_isDerived.2.1 13 = .ok (.aload_n 0, 1) := by decide +kernel
theorem d_Mo_isDerived_14 : decode Y_Mo_isDerived.2.1 14 = .ok (.getfield 19, 3) := by decide +kernel
theorem d_Mo_isDerived_17 : decode Y_Mo_isDerived.2.1 17 = .ok (.iload_n 2, 1) := by decide +kernel
theorem d_Mo_isDerived_18 : decode Y_Mo_isDerived.2.1 18 = .ok (.iaload, 1) := by decide +kernel
theorem d_Mo_isDerived_19 : decode Y_Mo_isDerived.2.1 19 = .ok (.iload_n 1, 1) := by decide +kernel
theorem d_Mo_isDerived_20 : decode Y_Mo_isDerived.2.1 20 = .ok (.if_icmp .ne 7, 3) := by decide +kernel
theorem d_Mo_isDerived_23 : decode Y_Mo_isDerived.2.1 23 = .ok (.iconst 1, 1) := by decide +kernel
theorem d_Mo_isDerived_24 : decode Y_Mo_isDerived.2.1 24 = .ok (.goto 18, 3) := by decide +kernel
theorem d_Mo_isDerived_27 : decode Y_Mo_isDerived.2.1 27 = .ok (.iconst 0, 1) := by decide +kernel
theorem d_Mo_isDerived_28 : decode Y_Mo_isDerived.2.1 28 = .ok (.goto 14, 3) := by decide +kernel
theorem d_Mo_isDerived_31 : decode Y_Mo_isDerived.2.1 31 = .ok (.aload_n 0, 1) := by decide +kernel
theorem d_Mo_isDerived_32 : decode Y_Mo_isDerived.2.1 32 = .ok (.getfield 26, 3) := by decide +kernel
theorem d_Mo_isDerived_35 : decode Y_Mo_isDerived.2.1 35 = .ok (.iload_n 1, 1) := by decide +kernel
theorem d_Mo_isDerived_36 : decode Y_Mo_isDerived.2.1 36 = .ok (.iload_n 2, 1) := by decide +kernel
theorem d_Mo_isDerived_37 : decode Y_Mo_isDerived.2.1 37 = .ok (.iload_n 3, 1) := by decide +kernel
theorem d_Mo_isDerived_38 : decode Y_Mo_isDerived.2.1 38 = .ok (.invokestatic 113, 3) := by decide +kernel
theorem d_Mo_isDerived_41 : decode Y_Mo_isDerived.2.1 41 = .ok (.baload, 1) := by decide +kernel
theorem d_Mo_isDerived_42 : decode Y_Mo_isDerived.2.1 42 = .ok (.ireturn, 1) := by decide +kernel
theorem d_Mo_nextCuts_0 : decode Y_Mo_nextCuts.2.1 0 = .ok (.aload_n 0, 1) := by decide +kernel
theorem d_Mo_nextCuts_1 : decode Y_Mo_nextCuts.2.1 1 = .ok (.getfield 13, 3) := by decide +kernel
theorem d_Mo_nextCuts_4 : decode Y_Mo_nextCuts.2.1 4 = .ok (.iload_n 1, 1) := by decide +kernel
theorem d_Mo_nextCuts_5 : decode Y_Mo_nextCuts.2.1 5 = .ok (.iaload, 1) := by decide +kernel
theorem d_Mo_nextCuts_6 : decode Y_Mo_nextCuts.2.1 6 = .ok (.iconst 3, 1) := by decide +kernel
theorem d_Mo_nextCuts_7 : decode Y_Mo_nextCuts.2.1 7 = .ok (.if_icmp .ne 23, 3) := by decide +kernel
theorem d_Mo_nextCuts_10 : decode Y_Mo_nextCuts.2.1 10 = .ok (.aload_n 0, 1) := by decide +kernel
theorem d_Mo_nextCuts_11 : decode Y_Mo_nextCuts.2.1 11 = .ok (.getfield 120, 3) := by decide +kernel
theorem d_Mo_nextCuts_14 : decode Y_Mo_nextCuts.2.1 14 = .ok (.iload_n 2, 1) := by decide +kernel
theorem d_Mo_nextCuts_15 : decode Y_Mo_nextCuts.2.1 15 = .ok (.if_icmp .ge 15, 3) := by decide +kernel
theorem d_Mo_nextCuts_18 : decode Y_Mo_nextCuts.2.1 18 = .ok (.aload_n 0, 1) := by decide +kernel
theorem d_Mo_nextCuts_19 : decode Y_Mo_nextCuts.2.1 19 = .ok (.dup, 1) := by decide +kernel
theorem d_Mo_nextCuts_20 : decode Y_Mo_nextCuts.2.1 20 = .ok (.getfield 120, 3) := by decide +kernel
theorem d_Mo_nextCuts_23 : decode Y_Mo_nextCuts.2.1 23 = .ok (.iconst 1, 1) := by decide +kernel
theorem d_Mo_nextCuts_24 : decode Y_Mo_nextCuts.2.1 24 = .ok (.iadd, 1) := by decide +kernel
theorem d_Mo_nextCuts_25 : decode Y_Mo_nextCuts.2.1 25 = .ok (.putfield 120, 3) := by decide +kernel
theorem d_Mo_nextCuts_28 : decode Y_Mo_nextCuts.2.1 28 = .ok (.iconst 1, 1) := by decide +kernel
theorem d_Mo_nextCuts_29 : decode Y_Mo_nextCuts.2.1 29 = .ok (.ireturn, 1) := by decide +kernel
theorem d_Mo_nextCuts_30 : decode Y_Mo_nextCuts.2.1 30 = .ok (.aload_n 0, 1) := by decide +kernel
theorem d_Mo_nextCuts_31 : decode Y_Mo_nextCuts.2.1 31 = .ok (.getfield 13, 3) := by decide +kernel
theorem d_Mo_nextCuts_34 : decode Y_Mo_nextCuts.2.1 34 = .ok (.iload_n 1, 1) := by decide +kernel
theorem d_Mo_nextCuts_35 : decode Y_Mo_nextCuts.2.1 35 = .ok (.iaload, 1) := by decide +kernel
theorem d_Mo_nextCuts_36 : decode Y_Mo_nextCuts.2.1 36 = .ok (.iconst 2, 1) := by decide +kernel
theorem d_Mo_nextCuts_37 : decode Y_Mo_nextCuts.2.1 37 = .ok (.if_icmp .lt 11, 3) := by decide +kernel
theorem d_Mo_nextCuts_40 : decode Y_Mo_nextCuts.2.1 40 = .ok (.aload_n 0, 1) := by decide +kernel
theorem d_Mo_nextCuts_41 : decode Y_Mo_nextCuts.2.1 41 = .ok (.getfield 117, 3) := by decide +kernel
theorem d_Mo_nextCuts_44 : decode Y_Mo_nextCuts.2.1 44 = .ok (.iload_n 2, 1) := by decide +kernel
theorem d_Mo_nextCuts_45 : decode Y_Mo_nextCuts.2.1 45 = .ok (.if_icmp .ne 5, 3) := by decide +kernel
theorem d_Mo_nextCuts_48 : decode Y_Mo_nextCuts.2.1 48 = .ok (.iconst 0, 1) := by decide +kernel
theorem d_Mo_nextCuts_49 : decode Y_Mo_nextCuts.2.1 49 = .ok (.ireturn, 1) := by decide +kernel
theorem d_Mo_nextCuts_50 : decode Y_Mo_nextCuts.2.1 50 = .ok (.aload_n 0, 1) := by decide +kernel
theorem d_Mo_nextCuts_51 : decode Y_Mo_nextCuts.2.1 51 = .ok (.dup, 1) := by decide +kernel
theorem d_Mo_nextCuts_52 : decode Y_Mo_nextCuts.2.1 52 = .ok (.getfield 117, 3) := by decide +kernel
theorem d_Mo_nextCuts_55 : decode Y_Mo_nextCuts.2.1 55 = .ok (.iconst 1, 1) := by decide +kernel
theorem d_Mo_nextCuts_56 : decode Y_Mo_nextCuts.2.1 56 = .ok (.iadd, 1) := by decide +kernel
theorem d_Mo_nextCuts_57 : decode Y_Mo_nextCuts.2.1 57 = .ok (.putfield 117, 3) := by decide +kernel
theorem d_Mo_nextCuts_60 : decode Y_Mo_nextCuts.2.1 60 = .ok (.aload_n 0, 1) := by decide +kernel
theorem d_Mo_nextCuts_61 : decode Y_Mo_nextCuts.2.1 61 = .ok (.aload_n 0, 1) := by decide +kernel
theorem d_Mo_nextCuts_62 : decode Y_Mo_nextCuts.2.1 62 = .ok (.getfield 117, 3) := by decide +kernel
theorem d_Mo_nextCuts_65 : decode Y_Mo_nextCuts.2.1 65 = .ok (.putfield 120, 3) := by decide +kernel
theorem d_Mo_nextCuts_68 : decode Y_Mo_nextCuts.2.1 68 = .ok (.iconst 1, 1) := by decide +kernel
theorem d_Mo_nextCuts_69 : decode Y_Mo_nextCuts.2.1 69 = .ok (.ireturn, 1) := by decide +kernel
theorem d_Mo_sum_0 : decode Y_Mo_sum.2.1 0 = .ok (.lconst 0, 1) := by decide +kernel
theorem d_Mo_sum_1 : decode Y_Mo_sum.2.1 1 = .ok (.lstore 4, 2) := by decide +kernel
theorem d_Mo_sum_3 : decode Y_Mo_sum.2.1 3 = .ok (.iconst 0, 1) := by decide +kernel
theorem d_Mo_sum_4 : decode Y_Mo_sum.2.1 4 = .ok (.istore 6, 2) := by decide +kernel
theorem d_Mo_sum_6 : decode Y_Mo_sum.2.1 6 = .ok (.iload 6, 2) := by decide +kernel
theorem d_Mo_sum_8 : decode Y_Mo_sum.2.1 8 = .ok (.aload_n 0, 1) := by decide +kernel
theorem d_Mo_sum_9 : decode Y_Mo_sum.2.1 9 = .ok (.getfield 73, 3) := by decide +kernel
theorem d_Mo_sum_12 : decode Y_Mo_sum.2.1 12 = .ok (.if_icmp .ge 106, 3) := by decide +kernel
theorem d_Mo_sum_15 : decode Y_Mo_sum.2.1 15 = .ok (.aload_n 0, 1) := by decide +kernel
theorem d_Mo_sum_16 : decode Y_Mo_sum.2.1 16 = .ok (.getfield 7, 3) := by decide +kernel
theorem d_Mo_sum_19 : decode Y_Mo_sum.2.1 19 = .ok (.iload 6, 2) := by decide +kernel
theorem d_Mo_sum_21 : decode Y_Mo_sum.2.1 21 = .ok (.iaload, 1) := by decide +kernel
theorem d_Mo_sum_22 : decode Y_Mo_sum.2.1 22 = .ok (.iload_n 1, 1) := by decide +kernel
theorem d_Mo_sum_23 : decode Y_Mo_sum.2.1 23 = .ok (.if_icmp .ne 7, 3) := by decide +kernel
theorem d_Mo_sum_26 : decode Y_Mo_sum.2.1 26 = .ok (.iconst 1, 1) := by decide +kernel
theorem d_Mo_sum_27 : decode Y_Mo_sum.2.1 27 = .ok (.goto 4, 3) := by decide +kernel
theorem d_Mo_sum_30 : decode Y_Mo_sum.2.1 30 = .ok (.iconst 0, 1) := by decide +kernel
theorem d_Mo_sum_31 : decode Y_Mo_sum.2.1 31 = .ok (.istore 7, 2) := by decide +kernel
theorem d_Mo_sum_33 : decode Y_Mo_sum.2.1 33 = .ok (.aload_n 0, 1) := by decide +kernel
theorem d_Mo_sum_34 : decode Y_Mo_sum.2.1 34 = .ok (.iload_n 2, 1) := by decide +kernel
theorem d_Mo_sum_35 : decode Y_Mo_sum.2.1 35 = .ok (.invokevirtual 130, 3) := by decide +kernel
theorem d_Mo_sum_38 : decode Y_Mo_sum.2.1 38 = .ok (.iload 7, 2) := by decide +kernel
theorem d_Mo_sum_40 : decode Y_Mo_sum.2.1 40 = .ok (.ifCond .eq 72, 3) := by decide +kernel
theorem d_Mo_sum_43 : decode Y_Mo_sum.2.1 43 = .ok (.aload_n 0, 1) := by decide +kernel
theorem d_Mo_sum_44 : decode Y_Mo_sum.2.1 44 = .ok (.iload 6, 2) := by decide +kernel
theorem d_Mo_sum_46 : decode Y_Mo_sum.2.1 46 = .ok (.iload_n 2, 1) := by decide +kernel
theorem d_Mo_sum_47 : decode Y_Mo_sum.2.1 47 = .ok (.iload_n 3, 1) := by decide +kernel
theorem d_Mo_sum_48 : decode Y_Mo_sum.2.1 48 = .ok (.invokevirtual 133, 3) := by decide +kernel
theorem d_Mo_sum_51 : decode Y_Mo_sum.2.1 51 = .ok (.ifCond .eq 49, 3) := by decide +kernel
theorem d_Mo_sum_54 : decode Y_Mo_sum.2.1 54 = .ok (.aload_n 0, 1) := by decide +kernel
theorem d_Mo_sum_55 : decode Y_Mo_sum.2.1 55 = .ok (.iload 6, 2) := by decide +kernel
theorem d_Mo_sum_57 : decode Y_Mo_sum.2.1 57 = .ok (.iload_n 2, 1) := by decide +kernel
theorem d_Mo_sum_58 : decode Y_Mo_sum.2.1 58 = .ok (.iload_n 3, 1) := by decide +kernel
theorem d_Mo_sum_59 : decode Y_Mo_sum.2.1 59 = .ok (.invokevirtual 151, 3) := by decide +kernel
theorem d_Mo_sum_62 : decode Y_Mo_sum.2.1 62 = .ok (.lstore 8, 2) := by decide +kernel
theorem d_Mo_sum_64 : decode Y_Mo_sum.2.1 64 = .ok (.lload 8, 2) := by decide +kernel
theorem d_Mo_sum_66 : decode Y_Mo_sum.2.1 66 = .ok (.lconst 0, 1) := by decide +kernel
theorem d_Mo_sum_67 : decode Y_Mo_sum.2.1 67 = .ok (.lcmp, 1) := by decide +kernel
theorem d_Mo_sum_68 : decode Y_Mo_sum.2.1 68 = .ok (.ifCond .ge 7, 3) := by decide +kernel
theorem d_Mo_sum_71 : decode Y_Mo_sum.2.1 71 = .ok (.ldc2_w 145, 3) := by decide +kernel
theorem d_Mo_sum_74 : decode Y_Mo_sum.2.1 74 = .ok (.lreturn, 1) := by decide +kernel
theorem d_Mo_sum_75 : decode Y_Mo_sum.2.1 75 = .ok (.lload 4, 2) := by decide +kernel
theorem d_Mo_sum_77 : decode Y_Mo_sum.2.1 77 = .ok (.lload 8, 2) := by decide +kernel
theorem d_Mo_sum_79 : decode Y_Mo_sum.2.1 79 = .ok (.ladd, 1) := by decide +kernel
theorem d_Mo_sum_80 : decode Y_Mo_sum.2.1 80 = .ok (.ldc2_w 143, 3) := by decide +kernel
theorem d_Mo_sum_83 : decode Y_Mo_sum.2.1 83 = .ok (.lcmp, 1) := by decide +kernel
theorem d_Mo_sum_84 : decode Y_Mo_sum.2.1 84 = .ok (.ifCond .le 9, 3) := by decide +kernel
theorem d_Mo_sum_87 : decode Y_Mo_sum.2.1 87 = .ok (.ldc2_w 143, 3) := by decide +kernel
theorem d_Mo_sum_90 : decode Y_Mo_sum.2.1 90 = .ok (.goto 8, 3) := by decide +kernel
theorem d_Mo_sum_93 : decode Y_Mo_sum.2.1 93 = .ok (.lload 4, 2) := by decide +kernel
theorem d_Mo_sum_95 : decode Y_Mo_sum.2.1 95 = .ok (.lload 8, 2) := by decide +kernel
theorem d_Mo_sum_97 : decode Y_Mo_sum.2.1 97 = .ok (.ladd, 1) := by decide +kernel
theorem d_Mo_sum_98 : decode Y_Mo_sum.2.1 98 = .ok (.lstore 4, 2) := by decide +kernel
theorem d_Mo_sum_100 : decode Y_Mo_sum.2.1 100 = .ok (.aload_n 0, 1) := by decide +kernel
theorem d_Mo_sum_101 : decode Y_Mo_sum.2.1 101 = .ok (.iload 6, 2) := by decide +kernel
theorem d_Mo_sum_103 : decode Y_Mo_sum.2.1 103 = .ok (.iload_n 3, 1) := by decide +kernel
theorem d_Mo_sum_104 : decode Y_Mo_sum.2.1 104 = .ok (.invokevirtual 136, 3) := by decide +kernel
theorem d_Mo_sum_107 : decode Y_Mo_sum.2.1 107 = .ok (.istore 7, 2) := by decide +kernel
theorem d_Mo_sum_109 : decode Y_Mo_sum.2.1 109 = .ok (.goto (-71), 3) := by decide +kernel
theorem d_Mo_sum_112 : decode Y_Mo_sum.2.1 112 = .ok (.iinc 6 1, 3) := by decide +kernel
theorem d_Mo_sum_115 : decode Y_Mo_sum.2.1 115 = .ok (.goto (-109), 3) := by decide +kernel
theorem d_Mo_sum_118 : decode Y_Mo_sum.2.1 118 = .ok (.lload 4, 2) := by decide +kernel
theorem d_Mo_sum_120 : decode Y_Mo_sum.2.1 120 = .ok (.lreturn, 1) := by decide +kernel
theorem d_Mo_byWay_0 : decode Y_Mo_byWay.2.1 0 = .ok (.lconst 1, 1) := by decide +kernel
theorem d_Mo_byWay_1 : decode Y_Mo_byWay.2.1 1 = .ok (.lstore 4, 2) := by decide +kernel
theorem d_Mo_byWay_3 : decode Y_Mo_byWay.2.1 3 = .ok (.iconst 0, 1) := by decide +kernel
theorem d_Mo_byWay_4 : decode Y_Mo_byWay.2.1 4 = .ok (.istore 6, 2) := by decide +kernel
theorem d_Mo_byWay_6 : decode Y_Mo_byWay.2.1 6 = .ok (.iload 6, 2) := by decide +kernel
theorem d_Mo_byWay_8 : decode Y_Mo_byWay.2.1 8 = .ok (.aload_n 0, 1) := by decide +kernel
theorem d_Mo_byWay_9 : decode Y_Mo_byWay.2.1 9 = .ok (.getfield 13, 3) := by decide +kernel
theorem d_Mo_byWay_12 : decode Y_Mo_byWay.2.1 12 = .ok (.iload_n 1, 1) := by decide +kernel
theorem d_Mo_byWay_13 : decode Y_Mo_byWay.2.1 13 = .ok (.iaload, 1) := by decide +kernel
theorem d_Mo_byWay_14 : decode Y_Mo_byWay.2.1 14 = .ok (.if_icmp .ge 107, 3) := by decide +kernel
theorem d_Mo_byWay_17 : decode Y_Mo_byWay.2.1 17 = .ok (.aload_n 0, 1) := by decide +kernel
theorem d_Mo_byWay_18 : decode Y_Mo_byWay.2.1 18 = .ok (.getfield 16, 3) := by decide +kernel
theorem d_Mo_byWay_21 : decode Y_Mo_byWay.2.1 21 = .ok (.iconst 3, 1) := by decide +kernel
theorem d_Mo_byWay_22 : decode Y_Mo_byWay.2.1 22 = .ok (.iload_n 1, 1) := by decide +kernel
theorem d_Mo_byWay_23 : decode Y_Mo_byWay.2.1 23 = .ok (.imul, 1) := by decide +kernel
theorem d_Mo_byWay_24 : decode Y_Mo_byWay.2.1 24 = .ok (.iload 6, 2) := by decide +kernel
theorem d_Mo_byWay_26 : decode Y_Mo_byWay.2.1 26 = .ok (.iadd, 1) := by decide +kernel
theorem d_Mo_byWay_27 : decode Y_Mo_byWay.2.1 27 = .ok (.iaload, 1) := by decide +kernel
theorem d_Mo_byWay_28 : decode Y_Mo_byWay.2.1 28 = .ok (.istore 7, 2) := by decide +kernel
theorem d_Mo_byWay_30 : decode Y_Mo_byWay.2.1 30 = .ok (.aload_n 0, 1) := by decide +kernel
theorem d_Mo_byWay_31 : decode Y_Mo_byWay.2.1 31 = .ok (.iload_n 1, 1) := by decide +kernel
theorem d_Mo_byWay_32 : decode Y_Mo_byWay.2.1 32 = .ok (.iload 6, 2) := by decide +kernel
theorem d_Mo_byWay_34 : decode Y_Mo_byWay.2.1 34 = .ok (.iload_n 2, 1) := by decide +kernel
theorem d_Mo_byWay_35 : decode Y_Mo_byWay.2.1 35 = .ok (.iload_n 3, 1) := by decide +kernel
theorem d_Mo_byWay_36 : decode Y_Mo_byWay.2.1 36 = .ok (.invokevirtual 123, 3) := by decide +kernel
theorem d_Mo_byWay_39 : decode Y_Mo_byWay.2.1 39 = .ok (.istore 8, 2) := by decide +kernel
theorem d_Mo_byWay_41 : decode Y_Mo_byWay.2.1 41 = .ok (.aload_n 0, 1) := by decide +kernel
theorem d_Mo_byWay_42 : decode Y_Mo_byWay.2.1 42 = .ok (.iload_n 1, 1) := by decide +kernel
theorem d_Mo_byWay_43 : decode Y_Mo_byWay.2.1 43 = .ok (.iload 6, 2) := by decide +kernel
theorem d_Mo_byWay_45 : decode Y_Mo_byWay.2.1 45 = .ok (.iconst 1, 1) := by decide +kernel
theorem d_Mo_byWay_46 : decode Y_Mo_byWay.2.1 46 = .ok (.iadd, 1) := by decide +kernel
theorem d_Mo_byWay_47 : decode Y_Mo_byWay.2.1 47 = .ok (.iload_n 2, 1) := by decide +kernel
theorem d_Mo_byWay_48 : decode Y_Mo_byWay.2.1 48 = .ok (.iload_n 3, 1) := by decide +kernel
theorem d_Mo_byWay_49 : decode Y_Mo_byWay.2.1 49 = .ok (.invokevirtual 123, 3) := by decide +kernel
theorem d_Mo_byWay_52 : decode Y_Mo_byWay.2.1 52 = .ok (.istore 9, 2) := by decide +kernel
theorem d_Mo_byWay_54 : decode Y_Mo_byWay.2.1 54 = .ok (.iload 7, 2) := by decide +kernel
theorem d_Mo_byWay_56 : decode Y_Mo_byWay.2.1 56 = .ok (.bipush 8, 2) := by decide +kernel
theorem d_Mo_byWay_58 : decode Y_Mo_byWay.2.1 58 = .ok (.if_icmp .ge 24, 3) := by decide +kernel
theorem d_Mo_byWay_61 : decode Y_Mo_byWay.2.1 61 = .ok (.aload_n 0, 1) := by decide +kernel
theorem d_Mo_byWay_62 : decode Y_Mo_byWay.2.1 62 = .ok (.getfield 29, 3) := by decide +kernel
theorem d_Mo_byWay_65 : decode Y_Mo_byWay.2.1 65 = .ok (.iload 7, 2) := by decide +kernel
theorem d_Mo_byWay_67 : decode Y_Mo_byWay.2.1 67 = .ok (.iload 8, 2) := by decide +kernel
theorem d_Mo_byWay_69 : decode Y_Mo_byWay.2.1 69 = .ok (.iload 9, 2) := by decide +kernel
theorem d_Mo_byWay_71 : decode Y_Mo_byWay.2.1 71 = .ok (.invokestatic 113, 3) := by decide +kernel
theorem d_Mo_byWay_74 : decode Y_Mo_byWay.2.1 74 = .ok (.baload, 1) := by decide +kernel
theorem d_Mo_byWay_75 : decode Y_Mo_byWay.2.1 75 = .ok (.ifCond .ne 7, 3) := by decide +kernel
theorem d_Mo_byWay_78 : decode Y_Mo_byWay.2.1 78 = .ok (.ldc2_w 145, 3) := by decide +kernel
theorem d_Mo_byWay_81 : decode Y_Mo_byWay.2.1 81 = .ok (.lreturn, 1) := by decide +kernel
theorem d_Mo_byWay_82 : decode Y_Mo_byWay.2.1 82 = .ok (.iload 7, 2) := by decide +kernel
theorem d_Mo_byWay_84 : decode Y_Mo_byWay.2.1 84 = .ok (.bipush 8, 2) := by decide +kernel
theorem d_Mo_byWay_86 : decode Y_Mo_byWay.2.1 86 = .ok (.if_icmp .ge 25, 3) := by decide +kernel
theorem d_Mo_byWay_89 : decode Y_Mo_byWay.2.1 89 = .ok (.lload 4, 2) := by decide +kernel
theorem d_Mo_byWay_91 : decode Y_Mo_byWay.2.1 91 = .ok (.aload_n 0, 1) := by decide +kernel
theorem d_Mo_byWay_92 : decode Y_Mo_byWay.2.1 92 = .ok (.getfield 32, 3) := by decide +kernel
theorem d_Mo_byWay_95 : decode Y_Mo_byWay.2.1 95 = .ok (.iload 7, 2) := by decide +kernel
theorem d_Mo_byWay_97 : decode Y_Mo_byWay.2.1 97 = .ok (.iload 8, 2) := by decide +kernel
theorem d_Mo_byWay_99 : decode Y_Mo_byWay.2.1 99 = .ok (.iload 9, 2) := by decide +kernel
theorem d_Mo_byWay_101 : decode Y_Mo_byWay.2.1 101 = .ok (.invokestatic 113, 3) := by decide +kernel
theorem d_Mo_byWay_104 : decode Y_Mo_byWay.2.1 104 = .ok (.laload, 1) := by decide +kernel
theorem d_Mo_byWay_105 : decode Y_Mo_byWay.2.1 105 = .ok (.invokestatic 147, 3) := by decide +kernel
theorem d_Mo_byWay_108 : decode Y_Mo_byWay.2.1 108 = .ok (.goto 5, 3) := by decide +kernel
theorem d_Mo_byWay_111 : decode Y_Mo_byWay.2.1 111 = .ok (.lload 4, 2) := by decide +kernel
theorem d_Mo_byWay_113 : decode Y_Mo_byWay.2.1 113 = .ok (.lstore 4, 2) := by decide +kernel
theorem d_Mo_byWay_115 : decode Y_Mo_byWay.2.1 115 = .ok (.iinc 6 1, 3) := by decide +kernel
theorem d_Mo_byWay_118 : decode Y_Mo_byWay.2.1 118 = .ok (.goto (-112), 3) := by decide +kernel
theorem d_Mo_byWay_121 : decode Y_Mo_byWay.2.1 121 = .ok (.lload 4, 2) := by decide +kernel
theorem d_Mo_byWay_123 : decode Y_Mo_byWay.2.1 123 = .ok (.lreturn, 1) := by decide +kernel
theorem d_Mo_times_0 : decode Y_Mo_times.2.1 0 = .ok (.lload_n 0, 1) := by decide +kernel
theorem d_Mo_times_1 : decode Y_Mo_times.2.1 1 = .ok (.lconst 0, 1) := by decide +kernel
theorem d_Mo_times_2 : decode Y_Mo_times.2.1 2 = .ok (.lcmp, 1) := by decide +kernel
theorem d_Mo_times_3 : decode Y_Mo_times.2.1 3 = .ok (.ifCond .eq 9, 3) := by decide +kernel
theorem d_Mo_times_6 : decode Y_Mo_times.2.1 6 = .ok (.lload_n 2, 1) := by decide +kernel
theorem d_Mo_times_7 : decode Y_Mo_times.2.1 7 = .ok (.lconst 0, 1) := by decide +kernel
theorem d_Mo_times_8 : decode Y_Mo_times.2.1 8 = .ok (.lcmp, 1) := by decide +kernel
theorem d_Mo_times_9 : decode Y_Mo_times.2.1 9 = .ok (.ifCond .ne 5, 3) := by decide +kernel
theorem d_Mo_times_12 : decode Y_Mo_times.2.1 12 = .ok (.lconst 0, 1) := by decide +kernel
theorem d_Mo_times_13 : decode Y_Mo_times.2.1 13 = .ok (.lreturn, 1) := by decide +kernel
theorem d_Mo_times_14 : decode Y_Mo_times.2.1 14 = .ok (.lload_n 2, 1) := by decide +kernel
theorem d_Mo_times_15 : decode Y_Mo_times.2.1 15 = .ok (.ldc2_w 143, 3) := by decide +kernel
theorem d_Mo_times_18 : decode Y_Mo_times.2.1 18 = .ok (.lload_n 0, 1) := by decide +kernel
theorem d_Mo_times_19 : decode Y_Mo_times.2.1 19 = .ok (.ladd, 1) := by decide +kernel
theorem d_Mo_times_20 : decode Y_Mo_times.2.1 20 = .ok (.lconst 1, 1) := by decide +kernel
theorem d_Mo_times_21 : decode Y_Mo_times.2.1 21 = .ok (.lsub, 1) := by decide +kernel
theorem d_Mo_times_22 : decode Y_Mo_times.2.1 22 = .ok (.lload_n 0, 1) := by decide +kernel
theorem d_Mo_times_23 : decode Y_Mo_times.2.1 23 = .ok (.ldiv, 1) := by decide +kernel
theorem d_Mo_times_24 : decode Y_Mo_times.2.1 24 = .ok (.lcmp, 1) := by decide +kernel
theorem d_Mo_times_25 : decode Y_Mo_times.2.1 25 = .ok (.ifCond .lt 9, 3) := by decide +kernel
theorem d_Mo_times_28 : decode Y_Mo_times.2.1 28 = .ok (.ldc2_w 143, 3) := by decide +kernel
theorem d_Mo_times_31 : decode Y_Mo_times.2.1 31 = .ok (.goto 6, 3) := by decide +kernel
theorem d_Mo_times_34 : decode Y_Mo_times.2.1 34 = .ok (.lload_n 0, 1) := by decide +kernel
theorem d_Mo_times_35 : decode Y_Mo_times.2.1 35 = .ok (.lload_n 2, 1) := by decide +kernel
theorem d_Mo_times_36 : decode Y_Mo_times.2.1 36 = .ok (.lmul, 1) := by decide +kernel
theorem d_Mo_times_37 : decode Y_Mo_times.2.1 37 = .ok (.lreturn, 1) := by decide +kernel
theorem d_Mo_trees_0 : decode Y_Mo_trees.2.1 0 = .ok (.aload_n 0, 1) := by decide +kernel
theorem d_Mo_trees_1 : decode Y_Mo_trees.2.1 1 = .ok (.iconst 0, 1) := by decide +kernel
theorem d_Mo_trees_2 : decode Y_Mo_trees.2.1 2 = .ok (.putfield 53, 3) := by decide +kernel
theorem d_Mo_trees_5 : decode Y_Mo_trees.2.1 5 = .ok (.aload_n 0, 1) := by decide +kernel
theorem d_Mo_trees_6 : decode Y_Mo_trees.2.1 6 = .ok (.iload_n 1, 1) := by decide +kernel
theorem d_Mo_trees_7 : decode Y_Mo_trees.2.1 7 = .ok (.iload_n 2, 1) := by decide +kernel
theorem d_Mo_trees_8 : decode Y_Mo_trees.2.1 8 = .ok (.iload_n 3, 1) := by decide +kernel
theorem d_Mo_trees_9 : decode Y_Mo_trees.2.1 9 = .ok (.invokevirtual 161, 3) := by decide +kernel
theorem d_Mo_trees_12 : decode Y_Mo_trees.2.1 12 = .ok (.ifCond .ne 10, 3) := by decide +kernel
theorem d_Mo_trees_15 : decode Y_Mo_trees.2.1 15 = .ok (.aload_n 0, 1) := by decide +kernel
theorem d_Mo_trees_16 : decode Y_Mo_trees.2.1 16 = .ok (.iconst 1, 1) := by decide +kernel
theorem d_Mo_trees_17 : decode Y_Mo_trees.2.1 17 = .ok (.putfield 53, 3) := by decide +kernel
theorem d_Mo_trees_20 : decode Y_Mo_trees.2.1 20 = .ok (.lconst 0, 1) := by decide +kernel
theorem d_Mo_trees_21 : decode Y_Mo_trees.2.1 21 = .ok (.lreturn, 1) := by decide +kernel
theorem d_Mo_trees_22 : decode Y_Mo_trees.2.1 22 = .ok (.aload_n 0, 1) := by decide +kernel
theorem d_Mo_trees_23 : decode Y_Mo_trees.2.1 23 = .ok (.invokevirtual 164, 3) := by decide +kernel
theorem d_Mo_trees_26 : decode Y_Mo_trees.2.1 26 = .ok (.aload_n 0, 1) := by decide +kernel
theorem d_Mo_trees_27 : decode Y_Mo_trees.2.1 27 = .ok (.iload_n 1, 1) := by decide +kernel
theorem d_Mo_trees_28 : decode Y_Mo_trees.2.1 28 = .ok (.iload_n 2, 1) := by decide +kernel
theorem d_Mo_trees_29 : decode Y_Mo_trees.2.1 29 = .ok (.iload_n 3, 1) := by decide +kernel
theorem d_Mo_trees_30 : decode Y_Mo_trees.2.1 30 = .ok (.invokevirtual 167, 3) := by decide +kernel
theorem d_Mo_trees_33 : decode Y_Mo_trees.2.1 33 = .ok (.lreturn, 1) := by decide +kernel
theorem d_Mo_treesOf_0 : decode Y_Mo_treesOf.2.1 0 = .ok (.iload_n 1, 1) := by decide +kernel
theorem d_Mo_treesOf_1 : decode Y_Mo_treesOf.2.1 1 = .ok (.iload_n 2, 1) := by decide +kernel
theorem d_Mo_treesOf_2 : decode Y_Mo_treesOf.2.1 2 = .ok (.iload_n 3, 1) := by decide +kernel
theorem d_Mo_treesOf_3 : decode Y_Mo_treesOf.2.1 3 = .ok (.invokestatic 113, 3) := by decide +kernel
theorem d_Mo_treesOf_6 : decode Y_Mo_treesOf.2.1 6 = .ok (.istore 4, 2) := by decide +kernel
theorem d_Mo_treesOf_8 : decode Y_Mo_treesOf.2.1 8 = .ok (.aload_n 0, 1) := by decide +kernel
theorem d_Mo_treesOf_9 : decode Y_Mo_treesOf.2.1 9 = .ok (.getfield 29, 3) := by decide +kernel
theorem d_Mo_treesOf_12 : decode Y_Mo_treesOf.2.1 12 = .ok (.iload 4, 2) := by decide +kernel
theorem d_Mo_treesOf_14 : decode Y_Mo_treesOf.2.1 14 = .ok (.baload, 1) := by decide +kernel
theorem d_Mo_treesOf_15 : decode Y_Mo_treesOf.2.1 15 = .ok (.ifCond .eq 13, 3) := by decide +kernel
theorem d_Mo_treesOf_18 : decode Y_Mo_treesOf.2.1 18 = .ok (.aload_n 0, 1) := by decide +kernel
theorem d_Mo_treesOf_19 : decode Y_Mo_treesOf.2.1 19 = .ok (.getfield 32, 3) := by decide +kernel
theorem d_Mo_treesOf_22 : decode Y_Mo_treesOf.2.1 22 = .ok (.iload 4, 2) := by decide +kernel
theorem d_Mo_treesOf_24 : decode Y_Mo_treesOf.2.1 24 = .ok (.laload, 1) := by decide +kernel
theorem d_Mo_treesOf_25 : decode Y_Mo_treesOf.2.1 25 = .ok (.goto 6, 3) := by decide +kernel
theorem d_Mo_treesOf_28 : decode Y_Mo_treesOf.2.1 28 = .ok (.ldc2_w 145, 3) := by decide +kernel
theorem d_Mo_treesOf_31 : decode Y_Mo_treesOf.2.1 31 = .ok (.lreturn, 1) := by decide +kernel
theorem d_Mo_nodes_0 : decode Y_Mo_nodes.2.1 0 = .ok (.aload_n 0, 1) := by decide +kernel
theorem d_Mo_nodes_1 : decode Y_Mo_nodes.2.1 1 = .ok (.iconst 0, 1) := by decide +kernel
theorem d_Mo_nodes_2 : decode Y_Mo_nodes.2.1 2 = .ok (.putfield 53, 3) := by decide +kernel
theorem d_Mo_nodes_5 : decode Y_Mo_nodes.2.1 5 = .ok (.aload_n 0, 1) := by decide +kernel
theorem d_Mo_nodes_6 : decode Y_Mo_nodes.2.1 6 = .ok (.invokevirtual 164, 3) := by decide +kernel
theorem d_Mo_nodes_9 : decode Y_Mo_nodes.2.1 9 = .ok (.aload_n 0, 1) := by decide +kernel
theorem d_Mo_nodes_10 : decode Y_Mo_nodes.2.1 10 = .ok (.getfield 26, 3) := by decide +kernel
theorem d_Mo_nodes_13 : decode Y_Mo_nodes.2.1 13 = .ok (.iconst 0, 1) := by decide +kernel
theorem d_Mo_nodes_14 : decode Y_Mo_nodes.2.1 14 = .ok (.iconst 0, 1) := by decide +kernel
theorem d_Mo_nodes_15 : decode Y_Mo_nodes.2.1 15 = .ok (.aload_n 0, 1) := by decide +kernel
theorem d_Mo_nodes_16 : decode Y_Mo_nodes.2.1 16 = .ok (.getfield 97, 3) := by decide +kernel
theorem d_Mo_nodes_19 : decode Y_Mo_nodes.2.1 19 = .ok (.invokestatic 113, 3) := by decide +kernel
theorem d_Mo_nodes_22 : decode Y_Mo_nodes.2.1 22 = .ok (.baload, 1) := by decide +kernel
theorem d_Mo_nodes_23 : decode Y_Mo_nodes.2.1 23 = .ok (.ifCond .ne 5, 3) := by decide +kernel
theorem d_Mo_nodes_26 : decode Y_Mo_nodes.2.1 26 = .ok (.iconst 0, 1) := by decide +kernel
theorem d_Mo_nodes_27 : decode Y_Mo_nodes.2.1 27 = .ok (.ireturn, 1) := by decide +kernel
theorem d_Mo_nodes_28 : decode Y_Mo_nodes.2.1 28 = .ok (.iconst 0, 1) := by decide +kernel
theorem d_Mo_nodes_29 : decode Y_Mo_nodes.2.1 29 = .ok (.istore_n 1, 1) := by decide +kernel
theorem d_Mo_nodes_30 : decode Y_Mo_nodes.2.1 30 = .ok (.iload_n 1, 1) := by decide +kernel
theorem d_Mo_nodes_31 : decode Y_Mo_nodes.2.1 31 = .ok (.sipush 845, 3) := by decide +kernel
theorem d_Mo_nodes_34 : decode Y_Mo_nodes.2.1 34 = .ok (.if_icmp .ge 16, 3) := by decide +kernel
theorem d_Mo_nodes_37 : decode Y_Mo_nodes.2.1 37 = .ok (.aload_n 0, 1) := by decide +kernel
theorem d_Mo_nodes_38 : decode Y_Mo_nodes.2.1 38 = .ok (.getfield 36, 3) := by decide +kernel
theorem d_Mo_nodes_41 : decode Y_Mo_nodes.2.1 41 = .ok (.iload_n 1, 1) := by decide +kernel
theorem d_Mo_nodes_42 : decode Y_Mo_nodes.2.1 42 = .ok (.iconst 0, 1) := by decide +kernel
theorem d_Mo_nodes_43 : decode Y_Mo_nodes.2.1 43 = .ok (.bastore, 1) := by decide +kernel
theorem d_Mo_nodes_44 : decode Y_Mo_nodes.2.1 44 = .ok (.iinc 1 1, 3) := by decide +kernel
theorem d_Mo_nodes_47 : decode Y_Mo_nodes.2.1 47 = .ok (.goto (-17), 3) := by decide +kernel
theorem d_Mo_nodes_50 : decode Y_Mo_nodes.2.1 50 = .ok (.aload_n 0, 1) := by decide +kernel
theorem d_Mo_nodes_51 : decode Y_Mo_nodes.2.1 51 = .ok (.getfield 36, 3) := by decide +kernel
theorem d_Mo_nodes_54 : decode Y_Mo_nodes.2.1 54 = .ok (.iconst 0, 1) := by decide +kernel
theorem d_Mo_nodes_55 : decode Y_Mo_nodes.2.1 55 = .ok (.iconst 0, 1) := by decide +kernel
theorem d_Mo_nodes_56 : decode Y_Mo_nodes.2.1 56 = .ok (.aload_n 0, 1) := by decide +kernel
theorem d_Mo_nodes_57 : decode Y_Mo_nodes.2.1 57 = .ok (.getfield 97, 3) := by decide +kernel
theorem d_Mo_nodes_60 : decode Y_Mo_nodes.2.1 60 = .ok (.invokestatic 113, 3) := by decide +kernel
theorem d_Mo_nodes_63 : decode Y_Mo_nodes.2.1 63 = .ok (.iconst 1, 1) := by decide +kernel
theorem d_Mo_nodes_64 : decode Y_Mo_nodes.2.1 64 = .ok (.bastore, 1) := by decide +kernel
theorem d_Mo_nodes_65 : decode Y_Mo_nodes.2.1 65 = .ok (.iconst 1, 1) := by decide +kernel
theorem d_Mo_nodes_66 : decode Y_Mo_nodes.2.1 66 = .ok (.istore_n 1, 1) := by decide +kernel
theorem d_Mo_nodes_67 : decode Y_Mo_nodes.2.1 67 = .ok (.iload_n 1, 1) := by decide +kernel
theorem d_Mo_nodes_68 : decode Y_Mo_nodes.2.1 68 = .ok (.ifCond .eq 76, 3) := by decide +kernel
theorem d_Mo_nodes_71 : decode Y_Mo_nodes.2.1 71 = .ok (.iconst 0, 1) := by decide +kernel
theorem d_Mo_nodes_72 : decode Y_Mo_nodes.2.1 72 = .ok (.istore_n 1, 1) := by decide +kernel
theorem d_Mo_nodes_73 : decode Y_Mo_nodes.2.1 73 = .ok (.iconst 0, 1) := by decide +kernel
theorem d_Mo_nodes_74 : decode Y_Mo_nodes.2.1 74 = .ok (.istore_n 2, 1) := by decide +kernel
theorem d_Mo_nodes_75 : decode Y_Mo_nodes.2.1 75 = .ok (.iload_n 2, 1) := by decide +kernel
theorem d_Mo_nodes_76 : decode Y_Mo_nodes.2.1 76 = .ok (.sipush 845, 3) := by decide +kernel
theorem d_Mo_nodes_79 : decode Y_Mo_nodes.2.1 79 = .ok (.if_icmp .ge 62, 3) := by decide +kernel
theorem d_Mo_nodes_82 : decode Y_Mo_nodes.2.1 82 = .ok (.aload_n 0, 1) := by decide +kernel
theorem d_Mo_nodes_83 : decode Y_Mo_nodes.2.1 83 = .ok (.getfield 36, 3) := by decide +kernel
theorem d_Mo_nodes_86 : decode Y_Mo_nodes.2.1 86 = .ok (.iload_n 2, 1) := by decide +kernel
theorem d_Mo_nodes_87 : decode Y_Mo_nodes.2.1 87 = .ok (.baload, 1) := by decide +kernel
theorem d_Mo_nodes_88 : decode Y_Mo_nodes.2.1 88 = .ok (.ifCond .eq 31, 3) := by decide +kernel
theorem d_Mo_nodes_91 : decode Y_Mo_nodes.2.1 91 = .ok (.aload_n 0, 1) := by decide +kernel
theorem d_Mo_nodes_92 : decode Y_Mo_nodes.2.1 92 = .ok (.iload_n 2, 1) := by decide +kernel
theorem d_Mo_nodes_93 : decode Y_Mo_nodes.2.1 93 = .ok (.sipush 169, 3) := by decide +kernel
theorem d_Mo_nodes_96 : decode Y_Mo_nodes.2.1 96 = .ok (.idiv, 1) := by decide +kernel
theorem d_Mo_nodes_97 : decode Y_Mo_nodes.2.1 97 = .ok (.iload_n 2, 1) := by decide +kernel
theorem d_Mo_nodes_98 : decode Y_Mo_nodes.2.1 98 = .ok (.sipush 169, 3) := by decide +kernel
theorem d_Mo_nodes_101 : decode Y_Mo_nodes.2.1 101 = .ok (.irem, 1) := by decide +kernel
theorem d_Mo_nodes_102 : decode Y_Mo_nodes.2.1 102 = .ok (.bipush 13, 2) := by decide +kernel
theorem d_Mo_nodes_104 : decode Y_Mo_nodes.2.1 104 = .ok (.idiv, 1) := by decide +kernel
theorem d_Mo_nodes_105 : decode Y_Mo_nodes.2.1 105 = .ok (.iload_n 2, 1) := by decide +kernel
theorem d_Mo_nodes_106 : decode Y_Mo_nodes.2.1 106 = .ok (.bipush 13, 2) := by decide +kernel
theorem d_Mo_nodes_108 : decode Y_Mo_nodes.2.1 108 = .ok (.irem, 1) := by decide +kernel
theorem d_Mo_nodes_109 : decode Y_Mo_nodes.2.1 109 = .ok (.invokevirtual 173, 3) := by decide +kernel
theorem d_Mo_nodes_112 : decode Y_Mo_nodes.2.1 112 = .ok (.ifCond .eq 7, 3) := by decide +kernel
theorem d_Mo_nodes_115 : decode Y_Mo_nodes.2.1 115 = .ok (.iconst 1, 1) := by decide +kernel
theorem d_Mo_nodes_116 : decode Y_Mo_nodes.2.1 116 = .ok (.goto 4, 3) := by decide +kernel
theorem d_Mo_nodes_119 : decode Y_Mo_nodes.2.1 119 = .ok (.iconst 0, 1) := by decide +kernel
theorem d_Mo_nodes_120 : decode Y_Mo_nodes.2.1 120 = .ok (.istore_n 3, 1) := by decide +kernel
theorem d_Mo_nodes_121 : decode Y_Mo_nodes.2.1 121 = .ok (.iload_n 1, 1) := by decide +kernel
theorem d_Mo_nodes_122 : decode Y_Mo_nodes.2.1 122 = .ok (.ifCond .ne 7, 3) := by decide +kernel
theorem d_Mo_nodes_125 : decode Y_Mo_nodes.2.1 125 = .ok (.iload_n 3, 1) := by decide +kernel
theorem d_Mo_nodes_126 : decode Y_Mo_nodes.2.1 126 = .ok (.ifCond .eq 7, 3) := by decide +kernel
theorem d_Mo_nodes_129 : decode Y_Mo_nodes.2.1 129 = .ok (.iconst 1, 1) := by decide +kernel
theorem d_Mo_nodes_130 : decode Y_Mo_nodes.2.1 130 = .ok (.goto 4, 3) := by decide +kernel
theorem d_Mo_nodes_133 : decode Y_Mo_nodes.2.1 133 = .ok (.iconst 0, 1) := by decide +kernel
theorem d_Mo_nodes_134 : decode Y_Mo_nodes.2.1 134 = .ok (.istore_n 1, 1) := by decide +kernel
theorem d_Mo_nodes_135 : decode Y_Mo_nodes.2.1 135 = .ok (.iinc 2 1, 3) := by decide +kernel
theorem d_Mo_nodes_138 : decode Y_Mo_nodes.2.1 138 = .ok (.goto (-63), 3) := by decide +kernel
theorem d_Mo_nodes_141 : decode Y_Mo_nodes.2.1 141 = .ok (.goto (-74), 3) := by decide +kernel
theorem d_Mo_nodes_144 : decode Y_Mo_nodes.2.1 144 = .ok (.iconst 0, 1) := by decide +kernel
theorem d_Mo_nodes_145 : decode Y_Mo_nodes.2.1 145 = .ok (.istore_n 2, 1) := by decide +kernel
theorem d_Mo_nodes_146 : decode Y_Mo_nodes.2.1 146 = .ok (.iconst 0, 1) := by decide +kernel
theorem d_Mo_nodes_147 : decode Y_Mo_nodes.2.1 147 = .ok (.istore_n 3, 1) := by decide +kernel
theorem d_Mo_nodes_148 : decode Y_Mo_nodes.2.1 148 = .ok (.iload_n 3, 1) := by decide +kernel
theorem d_Mo_nodes_149 : decode Y_Mo_nodes.2.1 149 = .ok (.sipush 845, 3) := by decide +kernel
theorem d_Mo_nodes_152 : decode Y_Mo_nodes.2.1 152 = .ok (.if_icmp .ge 26, 3) := by decide +kernel
theorem d_Mo_nodes_155 : decode Y_Mo_nodes.2.1 155 = .ok (.iload_n 2, 1) := by decide +kernel
theorem d_Mo_nodes_156 : decode Y_Mo_nodes.2.1 156 = .ok (.aload_n 0, 1) := by decide +kernel
theorem d_Mo_nodes_157 : decode Y_Mo_nodes.2.1 157 = .ok (.getfield 36, 3) := by decide +kernel
theorem d_Mo_nodes_160 : decode Y_Mo_nodes.2.1 160 = .ok (.iload_n 3, 1) := by decide +kernel
theorem d_Mo_nodes_161 : decode Y_Mo_nodes.2.1 161 = .ok (.baload, 1) := by decide +kernel
theorem d_Mo_nodes_162 : decode Y_Mo_nodes.2.1 162 = .ok (.ifCond .eq 7, 3) := by decide +kernel
theorem d_Mo_nodes_165 : decode Y_Mo_nodes.2.1 165 = .ok (.iconst 1, 1) := by decide +kernel
theorem d_Mo_nodes_166 : decode Y_Mo_nodes.2.1 166 = .ok (.goto 4, 3) := by decide +kernel
theorem d_Mo_nodes_169 : decode Y_Mo_nodes.2.1 169 = .ok (.iconst 0, 1) := by decide +kernel
theorem d_Mo_nodes_170 : decode Y_Mo_nodes.2.1 170 = .ok (.iadd, 1) := by decide +kernel
theorem d_Mo_nodes_171 : decode Y_Mo_nodes.2.1 171 = .ok (.istore_n 2, 1) := by decide +kernel
theorem d_Mo_nodes_172 : decode Y_Mo_nodes.2.1 172 = .ok (.iinc 3 1, 3) := by decide +kernel
theorem d_Mo_nodes_175 : decode Y_Mo_nodes.2.1 175 = .ok (.goto (-27), 3) := by decide +kernel
theorem d_Mo_nodes_178 : decode Y_Mo_nodes.2.1 178 = .ok (.iload_n 2, 1) := by decide +kernel
theorem d_Mo_nodes_179 : decode Y_Mo_nodes.2.1 179 = .ok (.ireturn, 1) := by decide +kernel
theorem d_Mo_meetAll_0 : decode Y_Mo_meetAll.2.1 0 = .ok (.iconst 0, 1) := by decide +kernel
theorem d_Mo_meetAll_1 : decode Y_Mo_meetAll.2.1 1 = .ok (.istore 4, 2) := by decide +kernel
theorem d_Mo_meetAll_3 : decode Y_Mo_meetAll.2.1 3 = .ok (.iconst 0, 1) := by decide +kernel
theorem d_Mo_meetAll_4 : decode Y_Mo_meetAll.2.1 4 = .ok (.istore 5, 2) := by decide +kernel
theorem d_Mo_meetAll_6 : decode Y_Mo_meetAll.2.1 6 = .ok (.iload 5, 2) := by decide +kernel
theorem d_Mo_meetAll_8 : decode Y_Mo_meetAll.2.1 8 = .ok (.aload_n 0, 1) := by decide +kernel
theorem d_Mo_meetAll_9 : decode Y_Mo_meetAll.2.1 9 = .ok (.getfield 73, 3) := by decide +kernel
theorem d_Mo_meetAll_12 : decode Y_Mo_meetAll.2.1 12 = .ok (.if_icmp .ge 77, 3) := by decide +kernel
theorem d_Mo_meetAll_15 : decode Y_Mo_meetAll.2.1 15 = .ok (.aload_n 0, 1) := by decide +kernel
theorem d_Mo_meetAll_16 : decode Y_Mo_meetAll.2.1 16 = .ok (.getfield 7, 3) := by decide +kernel
theorem d_Mo_meetAll_19 : decode Y_Mo_meetAll.2.1 19 = .ok (.iload 5, 2) := by decide +kernel
theorem d_Mo_meetAll_21 : decode Y_Mo_meetAll.2.1 21 = .ok (.iaload, 1) := by decide +kernel
theorem d_Mo_meetAll_22 : decode Y_Mo_meetAll.2.1 22 = .ok (.iload_n 1, 1) := by decide +kernel
theorem d_Mo_meetAll_23 : decode Y_Mo_meetAll.2.1 23 = .ok (.if_icmp .ne 7, 3) := by decide +kernel
theorem d_Mo_meetAll_26 : decode Y_Mo_meetAll.2.1 26 = .ok (.iconst 1, 1) := by decide +kernel
theorem d_Mo_meetAll_27 : decode Y_Mo_meetAll.2.1 27 = .ok (.goto 4, 3) := by decide +kernel
theorem d_Mo_meetAll_30 : decode Y_Mo_meetAll.2.1 30 = .ok (.iconst 0, 1) := by decide +kernel
theorem d_Mo_meetAll_31 : decode Y_Mo_meetAll.2.1 31 = .ok (.istore 6, 2) := by decide +kernel
theorem d_Mo_meetAll_33 : decode Y_Mo_meetAll.2.1 33 = .ok (.aload_n 0, 1) := by decide +kernel
theorem d_Mo_meetAll_34 : decode Y_Mo_meetAll.2.1 34 = .ok (.iload_n 2, 1) := by decide +kernel
theorem d_Mo_meetAll_35 : decode Y_Mo_meetAll.2.1 35 = .ok (.invokevirtual 130, 3) := by decide +kernel
theorem d_Mo_meetAll_38 : decode Y_Mo_meetAll.2.1 38 = .ok (.iload 6, 2) := by decide +kernel
theorem d_Mo_meetAll_40 : decode Y_Mo_meetAll.2.1 40 = .ok (.ifCond .eq 43, 3) := by decide +kernel
theorem d_Mo_meetAll_43 : decode Y_Mo_meetAll.2.1 43 = .ok (.iload 4, 2) := by decide +kernel
theorem d_Mo_meetAll_45 : decode Y_Mo_meetAll.2.1 45 = .ok (.aload_n 0, 1) := by decide +kernel
theorem d_Mo_meetAll_46 : decode Y_Mo_meetAll.2.1 46 = .ok (.iload 5, 2) := by decide +kernel
theorem d_Mo_meetAll_48 : decode Y_Mo_meetAll.2.1 48 = .ok (.iload_n 2, 1) := by decide +kernel
theorem d_Mo_meetAll_49 : decode Y_Mo_meetAll.2.1 49 = .ok (.iload_n 3, 1) := by decide +kernel
theorem d_Mo_meetAll_50 : decode Y_Mo_meetAll.2.1 50 = .ok (.invokevirtual 133, 3) := by decide +kernel
theorem d_Mo_meetAll_53 : decode Y_Mo_meetAll.2.1 53 = .ok (.ifCond .eq 14, 3) := by decide +kernel
theorem d_Mo_meetAll_56 : decode Y_Mo_meetAll.2.1 56 = .ok (.aload_n 0, 1) := by decide +kernel
theorem d_Mo_meetAll_57 : decode Y_Mo_meetAll.2.1 57 = .ok (.iload 5, 2) := by decide +kernel
theorem d_Mo_meetAll_59 : decode Y_Mo_meetAll.2.1 59 = .ok (.iload_n 2, 1) := by decide +kernel
theorem d_Mo_meetAll_60 : decode Y_Mo_meetAll.2.1 60 = .ok (.iload_n 3, 1) := by decide +kernel
theorem d_Mo_meetAll_61 : decode Y_Mo_meetAll.2.1 61 = .ok (.invokevirtual 170, 3) := by decide +kernel
theorem d_Mo_meetAll_64 : decode Y_Mo_meetAll.2.1 64 = .ok (.goto 4, 3) := by decide +kernel
theorem d_Mo_meetAll_67 : decode Y_Mo_meetAll.2.1 67 = .ok (.iconst 0, 1) := by decide +kernel
theorem d_Mo_meetAll_68 : decode Y_Mo_meetAll.2.1 68 = .ok (.iadd, 1) := by decide +kernel
theorem d_Mo_meetAll_69 : decode Y_Mo_meetAll.2.1 69 = .ok (.istore 4, 2) := by decide +kernel
theorem d_Mo_meetAll_71 : decode Y_Mo_meetAll.2.1 71 = .ok (.aload_n 0, 1) := by decide +kernel
theorem d_Mo_meetAll_72 : decode Y_Mo_meetAll.2.1 72 = .ok (.iload 5, 2) := by decide +kernel
theorem d_Mo_meetAll_74 : decode Y_Mo_meetAll.2.1 74 = .ok (.iload_n 3, 1) := by decide +kernel
theorem d_Mo_meetAll_75 : decode Y_Mo_meetAll.2.1 75 = .ok (.invokevirtual 136, 3) := by decide +kernel
theorem d_Mo_meetAll_78 : decode Y_Mo_meetAll.2.1 78 = .ok (.istore 6, 2) := by decide +kernel
theorem d_Mo_meetAll_80 : decode Y_Mo_meetAll.2.1 80 = .ok (.goto (-42), 3) := by decide +kernel
theorem d_Mo_meetAll_83 : decode Y_Mo_meetAll.2.1 83 = .ok (.iinc 5 1, 3) := by decide +kernel
theorem d_Mo_meetAll_86 : decode Y_Mo_meetAll.2.1 86 = .ok (.goto (-80), 3) := by decide +kernel
theorem d_Mo_meetAll_89 : decode Y_Mo_meetAll.2.1 89 = .ok (.iload 4, 2) := by decide +kernel
theorem d_Mo_meetAll_91 : decode Y_Mo_meetAll.2.1 91 = .ok (.ifCond .le 7, 3) := by decide +kernel
theorem d_Mo_meetAll_94 : decode Y_Mo_meetAll.2.1 94 = .ok (.iconst 1, 1) := by decide +kernel
theorem d_Mo_meetAll_95 : decode Y_Mo_meetAll.2.1 95 = .ok (.goto 4, 3) := by decide +kernel
theorem d_Mo_meetAll_98 : decode Y_Mo_meetAll.2.1 98 = .ok (.iconst 0, 1) := by decide +kernel
theorem d_Mo_meetAll_99 : decode Y_Mo_meetAll.2.1 99 = .ok (.ireturn, 1) := by decide +kernel
theorem d_Mo_meet_0 : decode Y_Mo_meet.2.1 0 = .ok (.iconst 0, 1) := by decide +kernel
theorem d_Mo_meet_1 : decode Y_Mo_meet.2.1 1 = .ok (.istore 4, 2) := by decide +kernel
theorem d_Mo_meet_3 : decode Y_Mo_meet.2.1 3 = .ok (.iconst 0, 1) := by decide +kernel
theorem d_Mo_meet_4 : decode Y_Mo_meet.2.1 4 = .ok (.istore 5, 2) := by decide +kernel
theorem d_Mo_meet_6 : decode Y_Mo_meet.2.1 6 = .ok (.iload 5, 2) := by decide +kernel
theorem d_Mo_meet_8 : decode Y_Mo_meet.2.1 8 = .ok (.aload_n 0, 1) := by decide +kernel
theorem d_Mo_meet_9 : decode Y_Mo_meet.2.1 9 = .ok (.getfield 13, 3) := by decide +kernel
theorem d_Mo_meet_12 : decode Y_Mo_meet.2.1 12 = .ok (.iload_n 1, 1) := by decide +kernel
theorem d_Mo_meet_13 : decode Y_Mo_meet.2.1 13 = .ok (.iaload, 1) := by decide +kernel
theorem d_Mo_meet_14 : decode Y_Mo_meet.2.1 14 = .ok (.if_icmp .ge 88, 3) := by decide +kernel
theorem d_Mo_meet_17 : decode Y_Mo_meet.2.1 17 = .ok (.aload_n 0, 1) := by decide +kernel
theorem d_Mo_meet_18 : decode Y_Mo_meet.2.1 18 = .ok (.getfield 16, 3) := by decide +kernel
theorem d_Mo_meet_21 : decode Y_Mo_meet.2.1 21 = .ok (.iconst 3, 1) := by decide +kernel
theorem d_Mo_meet_22 : decode Y_Mo_meet.2.1 22 = .ok (.iload_n 1, 1) := by decide +kernel
theorem d_Mo_meet_23 : decode Y_Mo_meet.2.1 23 = .ok (.imul, 1) := by decide +kernel
theorem d_Mo_meet_24 : decode Y_Mo_meet.2.1 24 = .ok (.iload 5, 2) := by decide +kernel
theorem d_Mo_meet_26 : decode Y_Mo_meet.2.1 26 = .ok (.iadd, 1) := by decide +kernel
theorem d_Mo_meet_27 : decode Y_Mo_meet.2.1 27 = .ok (.iaload, 1) := by decide +kernel
theorem d_Mo_meet_28 : decode Y_Mo_meet.2.1 28 = .ok (.istore 6, 2) := by decide +kernel
theorem d_Mo_meet_30 : decode Y_Mo_meet.2.1 30 = .ok (.aload_n 0, 1) := by decide +kernel
theorem d_Mo_meet_31 : decode Y_Mo_meet.2.1 31 = .ok (.iload_n 1, 1) := by decide +kernel
theorem d_Mo_meet_32 : decode Y_Mo_meet.2.1 32 = .ok (.iload 5, 2) := by decide +kernel
theorem d_Mo_meet_34 : decode Y_Mo_meet.2.1 34 = .ok (.iload_n 2, 1) := by decide +kernel
theorem d_Mo_meet_35 : decode Y_Mo_meet.2.1 35 = .ok (.iload_n 3, 1) := by decide +kernel
theorem d_Mo_meet_36 : decode Y_Mo_meet.2.1 36 = .ok (.invokevirtual 123, 3) := by decide +kernel
theorem d_Mo_meet_39 : decode Y_Mo_meet.2.1 39 = .ok (.istore 7, 2) := by decide +kernel
theorem d_Mo_meet_41 : decode Y_Mo_meet.2.1 41 = .ok (.aload_n 0, 1) := by decide +kernel
theorem d_Mo_meet_42 : decode Y_Mo_meet.2.1 42 = .ok (.iload_n 1, 1) := by decide +kernel
theorem d_Mo_meet_43 : decode Y_Mo_meet.2.1 43 = .ok (.iload 5, 2) := by decide +kernel
theorem d_Mo_meet_45 : decode Y_Mo_meet.2.1 45 = .ok (.iconst 1, 1) := by decide +kernel
theorem d_Mo_meet_46 : decode Y_Mo_meet.2.1 46 = .ok (.iadd, 1) := by decide +kernel
theorem d_Mo_meet_47 : decode Y_Mo_meet.2.1 47 = .ok (.iload_n 2, 1) := by decide +kernel
theorem d_Mo_meet_48 : decode Y_Mo_meet.2.1 48 = .ok (.iload_n 3, 1) := by decide +kernel
theorem d_Mo_meet_49 : decode Y_Mo_meet.2.1 49 = .ok (.invokevirtual 123, 3) := by decide +kernel
theorem d_Mo_meet_52 : decode Y_Mo_meet.2.1 52 = .ok (.istore 8, 2) := by decide +kernel
theorem d_Mo_meet_54 : decode Y_Mo_meet.2.1 54 = .ok (.iload 6, 2) := by decide +kernel
theorem d_Mo_meet_56 : decode Y_Mo_meet.2.1 56 = .ok (.bipush 8, 2) := by decide +kernel
theorem d_Mo_meet_58 : decode Y_Mo_meet.2.1 58 = .ok (.if_icmp .ge 38, 3) := by decide +kernel
theorem d_Mo_meet_61 : decode Y_Mo_meet.2.1 61 = .ok (.aload_n 0, 1) := by decide +kernel
theorem d_Mo_meet_62 : decode Y_Mo_meet.2.1 62 = .ok (.getfield 36, 3) := by decide +kernel
theorem d_Mo_meet_65 : decode Y_Mo_meet.2.1 65 = .ok (.iload 6, 2) := by decide +kernel
theorem d_Mo_meet_67 : decode Y_Mo_meet.2.1 67 = .ok (.iload 7, 2) := by decide +kernel
theorem d_Mo_meet_69 : decode Y_Mo_meet.2.1 69 = .ok (.iload 8, 2) := by decide +kernel
theorem d_Mo_meet_71 : decode Y_Mo_meet.2.1 71 = .ok (.invokestatic 113, 3) := by decide +kernel
theorem d_Mo_meet_74 : decode Y_Mo_meet.2.1 74 = .ok (.baload, 1) := by decide +kernel
theorem d_Mo_meet_75 : decode Y_Mo_meet.2.1 75 = .ok (.ifCond .ne 21, 3) := by decide +kernel
theorem d_Mo_meet_78 : decode Y_Mo_meet.2.1 78 = .ok (.aload_n 0, 1) := by decide +kernel
theorem d_Mo_meet_79 : decode Y_Mo_meet.2.1 79 = .ok (.getfield 36, 3) := by decide +kernel
theorem d_Mo_meet_82 : decode Y_Mo_meet.2.1 82 = .ok (.iload 6, 2) := by decide +kernel
theorem d_Mo_meet_84 : decode Y_Mo_meet.2.1 84 = .ok (.iload 7, 2) := by decide +kernel
theorem d_Mo_meet_86 : decode Y_Mo_meet.2.1 86 = .ok (.iload 8, 2) := by decide +kernel
theorem d_Mo_meet_88 : decode Y_Mo_meet.2.1 88 = .ok (.invokestatic 113, 3) := by decide +kernel
theorem d_Mo_meet_91 : decode Y_Mo_meet.2.1 91 = .ok (.iconst 1, 1) := by decide +kernel
theorem d_Mo_meet_92 : decode Y_Mo_meet.2.1 92 = .ok (.bastore, 1) := by decide +kernel
theorem d_Mo_meet_93 : decode Y_Mo_meet.2.1 93 = .ok (.iconst 1, 1) := by decide +kernel
theorem d_Mo_meet_94 : decode Y_Mo_meet.2.1 94 = .ok (.istore 4, 2) := by decide +kernel
theorem d_Mo_meet_96 : decode Y_Mo_meet.2.1 96 = .ok (.iinc 5 1, 3) := by decide +kernel
theorem d_Mo_meet_99 : decode Y_Mo_meet.2.1 99 = .ok (.goto (-93), 3) := by decide +kernel
theorem d_Mo_meet_102 : decode Y_Mo_meet.2.1 102 = .ok (.iload 4, 2) := by decide +kernel
theorem d_Mo_meet_104 : decode Y_Mo_meet.2.1 104 = .ok (.ireturn, 1) := by decide +kernel
theorem d_Mo_tree_0 : decode Y_Mo_tree.2.1 0 = .ok (.aload_n 0, 1) := by decide +kernel
theorem d_Mo_tree_1 : decode Y_Mo_tree.2.1 1 = .ok (.iconst 0, 1) := by decide +kernel
theorem d_Mo_tree_2 : decode Y_Mo_tree.2.1 2 = .ok (.putfield 53, 3) := by decide +kernel
theorem d_Mo_tree_5 : decode Y_Mo_tree.2.1 5 = .ok (.aload_n 0, 1) := by decide +kernel
theorem d_Mo_tree_6 : decode Y_Mo_tree.2.1 6 = .ok (.invokevirtual 164, 3) := by decide +kernel
theorem d_Mo_tree_9 : decode Y_Mo_tree.2.1 9 = .ok (.aload_n 0, 1) := by decide +kernel
theorem d_Mo_tree_10 : decode Y_Mo_tree.2.1 10 = .ok (.iconst 0, 1) := by decide +kernel
theorem d_Mo_tree_11 : decode Y_Mo_tree.2.1 11 = .ok (.iconst 0, 1) := by decide +kernel
theorem d_Mo_tree_12 : decode Y_Mo_tree.2.1 12 = .ok (.aload_n 0, 1) := by decide +kernel
theorem d_Mo_tree_13 : decode Y_Mo_tree.2.1 13 = .ok (.getfield 97, 3) := by decide +kernel
theorem d_Mo_tree_16 : decode Y_Mo_tree.2.1 16 = .ok (.invokevirtual 167, 3) := by decide +kernel
theorem d_Mo_tree_19 : decode Y_Mo_tree.2.1 19 = .ok (.lstore 4, 2) := by decide +kernel
theorem d_Mo_tree_21 : decode Y_Mo_tree.2.1 21 = .ok (.lload 4, 2) := by decide +kernel
theorem d_Mo_tree_23 : decode Y_Mo_tree.2.1 23 = .ok (.lconst 0, 1) := by decide +kernel
theorem d_Mo_tree_24 : decode Y_Mo_tree.2.1 24 = .ok (.lcmp, 1) := by decide +kernel
theorem d_Mo_tree_25 : decode Y_Mo_tree.2.1 25 = .ok (.ifCond .lt 29, 3) := by decide +kernel
theorem d_Mo_tree_28 : decode Y_Mo_tree.2.1 28 = .ok (.lload 4, 2) := by decide +kernel
theorem d_Mo_tree_30 : decode Y_Mo_tree.2.1 30 = .ok (.ldc2_w 143, 3) := by decide +kernel
theorem d_Mo_tree_33 : decode Y_Mo_tree.2.1 33 = .ok (.lcmp, 1) := by decide +kernel
theorem d_Mo_tree_34 : decode Y_Mo_tree.2.1 34 = .ok (.ifCond .ge 20, 3) := by decide +kernel
theorem d_Mo_tree_37 : decode Y_Mo_tree.2.1 37 = .ok (.lload_n 1, 1) := by decide +kernel
theorem d_Mo_tree_38 : decode Y_Mo_tree.2.1 38 = .ok (.lconst 0, 1) := by decide +kernel
theorem d_Mo_tree_39 : decode Y_Mo_tree.2.1 39 = .ok (.lcmp, 1) := by decide +kernel
theorem d_Mo_tree_40 : decode Y_Mo_tree.2.1 40 = .ok (.ifCond .lt 14, 3) := by decide +kernel
theorem d_Mo_tree_43 : decode Y_Mo_tree.2.1 43 = .ok (.lload_n 1, 1) := by decide +kernel
theorem d_Mo_tree_44 : decode Y_Mo_tree.2.1 44 = .ok (.lload 4, 2) := by decide +kernel
theorem d_Mo_tree_46 : decode Y_Mo_tree.2.1 46 = .ok (.lcmp, 1) := by decide +kernel
theorem d_Mo_tree_47 : decode Y_Mo_tree.2.1 47 = .ok (.ifCond .ge 7, 3) := by decide +kernel
theorem d_Mo_tree_50 : decode Y_Mo_tree.2.1 50 = .ok (.iload_n 3, 1) := by decide +kernel
theorem d_Mo_tree_51 : decode Y_Mo_tree.2.1 51 = .ok (.ifCond .ge 9, 3) := by decide +kernel
theorem d_Mo_tree_54 : decode Y_Mo_tree.2.1 54 = .ok (.aload_n 0, 1) := by decide +kernel
theorem d_Mo_tree_55 : decode Y_Mo_tree.2.1 55 = .ok (.iconst 1, 1) := by decide +kernel
theorem d_Mo_tree_56 : decode Y_Mo_tree.2.1 56 = .ok (.invokevirtual 91, 3) := by decide +kernel
theorem d_Mo_tree_59 : decode Y_Mo_tree.2.1 59 = .ok (.ireturn, 1) := by decide +kernel
theorem d_Mo_tree_60 : decode Y_Mo_tree.2.1 60 = .ok (.aload_n 0, 1) := by decide +kernel
theorem d_Mo_tree_61 : decode Y_Mo_tree.2.1 61 = .ok (.iconst 0, 1) := by decide +kernel
theorem d_Mo_tree_62 : decode Y_Mo_tree.2.1 62 = .ok (.putfield 176, 3) := by decide +kernel
theorem d_Mo_tree_65 : decode Y_Mo_tree.2.1 65 = .ok (.aload_n 0, 1) := by decide +kernel
theorem d_Mo_tree_66 : decode Y_Mo_tree.2.1 66 = .ok (.iconst 0, 1) := by decide +kernel
theorem d_Mo_tree_67 : decode Y_Mo_tree.2.1 67 = .ok (.iconst 0, 1) := by decide +kernel
theorem d_Mo_tree_68 : decode Y_Mo_tree.2.1 68 = .ok (.aload_n 0, 1) := by decide +kernel
theorem d_Mo_tree_69 : decode Y_Mo_tree.2.1 69 = .ok (.getfield 97, 3) := by decide +kernel
theorem d_Mo_tree_72 : decode Y_Mo_tree.2.1 72 = .ok (.invokestatic 113, 3) := by decide +kernel
theorem d_Mo_tree_75 : decode Y_Mo_tree.2.1 75 = .ok (.lload_n 1, 1) := by decide +kernel
theorem d_Mo_tree_76 : decode Y_Mo_tree.2.1 76 = .ok (.invokevirtual 179, 3) := by decide +kernel
theorem d_Mo_tree_79 : decode Y_Mo_tree.2.1 79 = .ok (.iconst 0, 1) := by decide +kernel
theorem d_Mo_tree_80 : decode Y_Mo_tree.2.1 80 = .ok (.istore 6, 2) := by decide +kernel
theorem d_Mo_tree_82 : decode Y_Mo_tree.2.1 82 = .ok (.aload_n 0, 1) := by decide +kernel
theorem d_Mo_tree_83 : decode Y_Mo_tree.2.1 83 = .ok (.getfield 176, 3) := by decide +kernel
theorem d_Mo_tree_86 : decode Y_Mo_tree.2.1 86 = .ok (.ifCond .le 52, 3) := by decide +kernel
theorem d_Mo_tree_89 : decode Y_Mo_tree.2.1 89 = .ok (.aload_n 0, 1) := by decide +kernel
theorem d_Mo_tree_90 : decode Y_Mo_tree.2.1 90 = .ok (.dup, 1) := by decide +kernel
theorem d_Mo_tree_91 : decode Y_Mo_tree.2.1 91 = .ok (.getfield 176, 3) := by decide +kernel
theorem d_Mo_tree_94 : decode Y_Mo_tree.2.1 94 = .ok (.iconst 1, 1) := by decide +kernel
theorem d_Mo_tree_95 : decode Y_Mo_tree.2.1 95 = .ok (.isub, 1) := by decide +kernel
theorem d_Mo_tree_96 : decode Y_Mo_tree.2.1 96 = .ok (.putfield 176, 3) := by decide +kernel
theorem d_Mo_tree_99 : decode Y_Mo_tree.2.1 99 = .ok (.aload_n 0, 1) := by decide +kernel
theorem d_Mo_tree_100 : decode Y_Mo_tree.2.1 100 = .ok (.aload_n 0, 1) := by decide +kernel
theorem d_Mo_tree_101 : decode Y_Mo_tree.2.1 101 = .ok (.getfield 39, 3) := by decide +kernel
theorem d_Mo_tree_104 : decode Y_Mo_tree.2.1 104 = .ok (.aload_n 0, 1) := by decide +kernel
theorem d_Mo_tree_105 : decode Y_Mo_tree.2.1 105 = .ok (.getfield 176, 3) := by decide +kernel
theorem d_Mo_tree_108 : decode Y_Mo_tree.2.1 108 = .ok (.iaload, 1) := by decide +kernel
theorem d_Mo_tree_109 : decode Y_Mo_tree.2.1 109 = .ok (.aload_n 0, 1) := by decide +kernel
theorem d_Mo_tree_110 : decode Y_Mo_tree.2.1 110 = .ok (.getfield 42, 3) := by decide +kernel
theorem d_Mo_tree_113 : decode Y_Mo_tree.2.1 113 = .ok (.aload_n 0, 1) := by decide +kernel
theorem d_Mo_tree_114 : decode Y_Mo_tree.2.1 114 = .ok (.getfield 176, 3) := by decide +kernel
theorem d_Mo_tree_117 : decode Y_Mo_tree.2.1 117 = .ok (.laload, 1) := by decide +kernel
theorem d_Mo_tree_118 : decode Y_Mo_tree.2.1 118 = .ok (.invokevirtual 187, 3) := by decide +kernel
theorem d_Mo_tree_121 : decode Y_Mo_tree.2.1 121 = .ok (.istore 7, 2) := by decide +kernel
theorem d_Mo_tree_123 : decode Y_Mo_tree.2.1 123 = .ok (.iload 6, 2) := by decide +kernel
theorem d_Mo_tree_125 : decode Y_Mo_tree.2.1 125 = .ok (.iload_n 3, 1) := by decide +kernel
theorem d_Mo_tree_126 : decode Y_Mo_tree.2.1 126 = .ok (.if_icmp .ne 6, 3) := by decide +kernel
theorem d_Mo_tree_129 : decode Y_Mo_tree.2.1 129 = .ok (.iload 7, 2) := by decide +kernel
theorem d_Mo_tree_131 : decode Y_Mo_tree.2.1 131 = .ok (.ireturn, 1) := by decide +kernel
theorem d_Mo_tree_132 : decode Y_Mo_tree.2.1 132 = .ok (.iinc 6 1, 3) := by decide +kernel
theorem d_Mo_tree_135 : decode Y_Mo_tree.2.1 135 = .ok (.goto (-53), 3) := by decide +kernel
theorem d_Mo_tree_138 : decode Y_Mo_tree.2.1 138 = .ok (.aload_n 0, 1) := by decide +kernel
theorem d_Mo_tree_139 : decode Y_Mo_tree.2.1 139 = .ok (.iconst 1, 1) := by decide +kernel
theorem d_Mo_tree_140 : decode Y_Mo_tree.2.1 140 = .ok (.invokevirtual 91, 3) := by decide +kernel
theorem d_Mo_tree_143 : decode Y_Mo_tree.2.1 143 = .ok (.ireturn, 1) := by decide +kernel
theorem d_Mo_come_0 : decode Y_Mo_come.2.1 0 = .ok (.aload_n 0, 1) := by decide +kernel
theorem d_Mo_come_1 : decode Y_Mo_come.2.1 1 = .ok (.getfield 39, 3) := by decide +kernel
theorem d_Mo_come_4 : decode Y_Mo_come.2.1 4 = .ok (.aload_n 0, 1) := by decide +kernel
theorem d_Mo_come_5 : decode Y_Mo_come.2.1 5 = .ok (.getfield 176, 3) := by decide +kernel
theorem d_Mo_come_8 : decode Y_Mo_come.2.1 8 = .ok (.iload_n 1, 1) := by decide +kernel
theorem d_Mo_come_9 : decode Y_Mo_come.2.1 9 = .ok (.iastore, 1) := by decide +kernel
theorem d_Mo_come_10 : decode Y_Mo_come.2.1 10 = .ok (.aload_n 0, 1) := by decide +kernel
theorem d_Mo_come_11 : decode Y_Mo_come.2.1 11 = .ok (.getfield 42, 3) := by decide +kernel
theorem d_Mo_come_14 : decode Y_Mo_come.2.1 14 = .ok (.aload_n 0, 1) := by decide +kernel
theorem d_Mo_come_15 : decode Y_Mo_come.2.1 15 = .ok (.getfield 176, 3) := by decide +kernel
theorem d_Mo_come_18 : decode Y_Mo_come.2.1 18 = .ok (.lload_n 2, 1) := by decide +kernel
theorem d_Mo_come_19 : decode Y_Mo_come.2.1 19 = .ok (.lastore, 1) := by decide +kernel
theorem d_Mo_come_20 : decode Y_Mo_come.2.1 20 = .ok (.aload_n 0, 1) := by decide +kernel
theorem d_Mo_come_21 : decode Y_Mo_come.2.1 21 = .ok (.dup, 1) := by decide +kernel
theorem d_Mo_come_22 : decode Y_Mo_come.2.1 22 = .ok (.getfield 176, 3) := by decide +kernel
theorem d_Mo_come_25 : decode Y_Mo_come.2.1 25 = .ok (.iconst 1, 1) := by decide +kernel
theorem d_Mo_come_26 : decode Y_Mo_come.2.1 26 = .ok (.iadd, 1) := by decide +kernel
theorem d_Mo_come_27 : decode Y_Mo_come.2.1 27 = .ok (.putfield 176, 3) := by decide +kernel
theorem d_Mo_come_30 : decode Y_Mo_come.2.1 30 = .ok (.return_, 1) := by decide +kernel
theorem d_Mo_takeRoot_0 : decode Y_Mo_takeRoot.2.1 0 = .ok (.iload_n 1, 1) := by decide +kernel
theorem d_Mo_takeRoot_1 : decode Y_Mo_takeRoot.2.1 1 = .ok (.sipush 169, 3) := by decide +kernel
theorem d_Mo_takeRoot_4 : decode Y_Mo_takeRoot.2.1 4 = .ok (.idiv, 1) := by decide +kernel
theorem d_Mo_takeRoot_5 : decode Y_Mo_takeRoot.2.1 5 = .ok (.istore 4, 2) := by decide +kernel
theorem d_Mo_takeRoot_7 : decode Y_Mo_takeRoot.2.1 7 = .ok (.iload_n 1, 1) := by decide +kernel
theorem d_Mo_takeRoot_8 : decode Y_Mo_takeRoot.2.1 8 = .ok (.sipush 169, 3) := by decide +kernel
theorem d_Mo_takeRoot_11 : decode Y_Mo_takeRoot.2.1 11 = .ok (.irem, 1) := by decide +kernel
theorem d_Mo_takeRoot_12 : decode Y_Mo_takeRoot.2.1 12 = .ok (.bipush 13, 2) := by decide +kernel
theorem d_Mo_takeRoot_14 : decode Y_Mo_takeRoot.2.1 14 = .ok (.idiv, 1) := by decide +kernel
theorem d_Mo_takeRoot_15 : decode Y_Mo_takeRoot.2.1 15 = .ok (.istore 5, 2) := by decide +kernel
theorem d_Mo_takeRoot_17 : decode Y_Mo_takeRoot.2.1 17 = .ok (.iload_n 1, 1) := by decide +kernel
theorem d_Mo_takeRoot_18 : decode Y_Mo_takeRoot.2.1 18 = .ok (.bipush 13, 2) := by decide +kernel
theorem d_Mo_takeRoot_20 : decode Y_Mo_takeRoot.2.1 20 = .ok (.irem, 1) := by decide +kernel
theorem d_Mo_takeRoot_21 : decode Y_Mo_takeRoot.2.1 21 = .ok (.istore 6, 2) := by decide +kernel
theorem d_Mo_takeRoot_23 : decode Y_Mo_takeRoot.2.1 23 = .ok (.lload_n 2, 1) := by decide +kernel
theorem d_Mo_takeRoot_24 : decode Y_Mo_takeRoot.2.1 24 = .ok (.lstore 7, 2) := by decide +kernel
theorem d_Mo_takeRoot_26 : decode Y_Mo_takeRoot.2.1 26 = .ok (.iconst 0, 1) := by decide +kernel
theorem d_Mo_takeRoot_27 : decode Y_Mo_takeRoot.2.1 27 = .ok (.istore 9, 2) := by decide +kernel
theorem d_Mo_takeRoot_29 : decode Y_Mo_takeRoot.2.1 29 = .ok (.iload 9, 2) := by decide +kernel
theorem d_Mo_takeRoot_31 : decode Y_Mo_takeRoot.2.1 31 = .ok (.aload_n 0, 1) := by decide +kernel
theorem d_Mo_takeRoot_32 : decode Y_Mo_takeRoot.2.1 32 = .ok (.getfield 73, 3) := by decide +kernel
theorem d_Mo_takeRoot_35 : decode Y_Mo_takeRoot.2.1 35 = .ok (.if_icmp .ge 107, 3) := by decide +kernel
theorem d_Mo_takeRoot_38 : decode Y_Mo_takeRoot.2.1 38 = .ok (.aload_n 0, 1) := by decide +kernel
theorem d_Mo_takeRoot_39 : decode Y_Mo_takeRoot.2.1 39 = .ok (.getfield 7, 3) := by decide +kernel
theorem d_Mo_takeRoot_42 : decode Y_Mo_takeRoot.2.1 42 = .ok (.iload 9, 2) := by decide +kernel
theorem d_Mo_takeRoot_44 : decode Y_Mo_takeRoot.2.1 44 = .ok (.iaload, 1) := by decide +kernel
theorem d_Mo_takeRoot_45 : decode Y_Mo_takeRoot.2.1 45 = .ok (.iload 4, 2) := by decide +kernel
theorem d_Mo_takeRoot_47 : decode Y_Mo_takeRoot.2.1 47 = .ok (.if_icmp .ne 7, 3) := by decide +kernel
theorem d_Mo_takeRoot_50 : decode Y_Mo_takeRoot.2.1 50 = .ok (.iconst 1, 1) := by decide +kernel
theorem d_Mo_takeRoot_51 : decode Y_Mo_takeRoot.2.1 51 = .ok (.goto 4, 3) := by decide +kernel
theorem d_Mo_takeRoot_54 : decode Y_Mo_takeRoot.2.1 54 = .ok (.iconst 0, 1) := by decide +kernel
theorem d_Mo_takeRoot_55 : decode Y_Mo_takeRoot.2.1 55 = .ok (.istore 10, 2) := by decide +kernel
theorem d_Mo_takeRoot_57 : decode Y_Mo_takeRoot.2.1 57 = .ok (.aload_n 0, 1) := by decide +kernel
theorem d_Mo_takeRoot_58 : decode Y_Mo_takeRoot.2.1 58 = .ok (.iload 5, 2) := by decide +kernel
theorem d_Mo_takeRoot_60 : decode Y_Mo_takeRoot.2.1 60 = .ok (.invokevirtual 130, 3) := by decide +kernel
theorem d_Mo_takeRoot_63 : decode Y_Mo_takeRoot.2.1 63 = .ok (.iload 10, 2) := by decide +kernel
theorem d_Mo_takeRoot_65 : decode Y_Mo_takeRoot.2.1 65 = .ok (.ifCond .eq 71, 3) := by decide +kernel
theorem d_Mo_takeRoot_68 : decode Y_Mo_takeRoot.2.1 68 = .ok (.aload_n 0, 1) := by decide +kernel
theorem d_Mo_takeRoot_69 : decode Y_Mo_takeRoot.2.1 69 = .ok (.iload 9, 2) := by decide +kernel
theorem d_Mo_takeRoot_71 : decode Y_Mo_takeRoot.2.1 71 = .ok (.iload 5, 2) := by decide +kernel
theorem d_Mo_takeRoot_73 : decode Y_Mo_takeRoot.2.1 73 = .ok (.iload 6, 2) := by decide +kernel
theorem d_Mo_takeRoot_75 : decode Y_Mo_takeRoot.2.1 75 = .ok (.invokevirtual 133, 3) := by decide +kernel
theorem d_Mo_takeRoot_78 : decode Y_Mo_takeRoot.2.1 78 = .ok (.ifCond .eq 45, 3) := by decide +kernel
theorem d_Mo_takeRoot_81 : decode Y_Mo_takeRoot.2.1 81 = .ok (.aload_n 0, 1) := by decide +kernel
theorem d_Mo_takeRoot_82 : decode Y_Mo_takeRoot.2.1 82 = .ok (.iload 9, 2) := by decide +kernel
theorem d_Mo_takeRoot_84 : decode Y_Mo_takeRoot.2.1 84 = .ok (.iload 5, 2) := by decide +kernel
theorem d_Mo_takeRoot_86 : decode Y_Mo_takeRoot.2.1 86 = .ok (.iload 6, 2) := by decide +kernel
theorem d_Mo_takeRoot_88 : decode Y_Mo_takeRoot.2.1 88 = .ok (.invokevirtual 151, 3) := by decide +kernel
theorem d_Mo_takeRoot_91 : decode Y_Mo_takeRoot.2.1 91 = .ok (.lstore 11, 2) := by decide +kernel
theorem d_Mo_takeRoot_93 : decode Y_Mo_takeRoot.2.1 93 = .ok (.lload 7, 2) := by decide +kernel
theorem d_Mo_takeRoot_95 : decode Y_Mo_takeRoot.2.1 95 = .ok (.lload 11, 2) := by decide +kernel
theorem d_Mo_takeRoot_97 : decode Y_Mo_takeRoot.2.1 97 = .ok (.lcmp, 1) := by decide +kernel
theorem d_Mo_takeRoot_98 : decode Y_Mo_takeRoot.2.1 98 = .ok (.ifCond .ge 18, 3) := by decide +kernel
theorem d_Mo_takeRoot_101 : decode Y_Mo_takeRoot.2.1 101 = .ok (.aload_n 0, 1) := by decide +kernel
theorem d_Mo_takeRoot_102 : decode Y_Mo_takeRoot.2.1 102 = .ok (.iload 9, 2) := by decide +kernel
theorem d_Mo_takeRoot_104 : decode Y_Mo_takeRoot.2.1 104 = .ok (.iload 5, 2) := by decide +kernel
theorem d_Mo_takeRoot_106 : decode Y_Mo_takeRoot.2.1 106 = .ok (.iload 6, 2) := by decide +kernel
theorem d_Mo_takeRoot_108 : decode Y_Mo_takeRoot.2.1 108 = .ok (.lload 7, 2) := by decide +kernel
theorem d_Mo_takeRoot_110 : decode Y_Mo_takeRoot.2.1 110 = .ok (.invokevirtual 183, 3) := by decide +kernel
theorem d_Mo_takeRoot_113 : decode Y_Mo_takeRoot.2.1 113 = .ok (.iload 9, 2) := by decide +kernel
theorem d_Mo_takeRoot_115 : decode Y_Mo_takeRoot.2.1 115 = .ok (.ireturn, 1) := by decide +kernel
theorem d_Mo_takeRoot_116 : decode Y_Mo_takeRoot.2.1 116 = .ok (.lload 7, 2) := by decide +kernel
theorem d_Mo_takeRoot_118 : decode Y_Mo_takeRoot.2.1 118 = .ok (.lload 11, 2) := by decide +kernel
theorem d_Mo_takeRoot_120 : decode Y_Mo_takeRoot.2.1 120 = .ok (.lsub, 1) := by decide +kernel
theorem d_Mo_takeRoot_121 : decode Y_Mo_takeRoot.2.1 121 = .ok (.lstore 7, 2) := by decide +kernel
theorem d_Mo_takeRoot_123 : decode Y_Mo_takeRoot.2.1 123 = .ok (.aload_n 0, 1) := by decide +kernel
theorem d_Mo_takeRoot_124 : decode Y_Mo_takeRoot.2.1 124 = .ok (.iload 9, 2) := by decide +kernel
theorem d_Mo_takeRoot_126 : decode Y_Mo_takeRoot.2.1 126 = .ok (.iload 6, 2) := by decide +kernel
theorem d_Mo_takeRoot_128 : decode Y_Mo_takeRoot.2.1 128 = .ok (.invokevirtual 136, 3) := by decide +kernel
theorem d_Mo_takeRoot_131 : decode Y_Mo_takeRoot.2.1 131 = .ok (.istore 10, 2) := by decide +kernel
theorem d_Mo_takeRoot_133 : decode Y_Mo_takeRoot.2.1 133 = .ok (.goto (-70), 3) := by decide +kernel
theorem d_Mo_takeRoot_136 : decode Y_Mo_takeRoot.2.1 136 = .ok (.iinc 9 1, 3) := by decide +kernel
theorem d_Mo_takeRoot_139 : decode Y_Mo_takeRoot.2.1 139 = .ok (.goto (-110), 3) := by decide +kernel
theorem d_Mo_takeRoot_142 : decode Y_Mo_takeRoot.2.1 142 = .ok (.iconst (-1), 1) := by decide +kernel
theorem d_Mo_takeRoot_143 : decode Y_Mo_takeRoot.2.1 143 = .ok (.ireturn, 1) := by decide +kernel
theorem d_Mo_comeAll_0 : decode Y_Mo_comeAll.2.1 0 = .ok (.lload 4, 2) := by decide +kernel
theorem d_Mo_comeAll_2 : decode Y_Mo_comeAll.2.1 2 = .ok (.lstore 6, 2) := by decide +kernel
theorem d_Mo_comeAll_4 : decode Y_Mo_comeAll.2.1 4 = .ok (.aload_n 0, 1) := by decide +kernel
theorem d_Mo_comeAll_5 : decode Y_Mo_comeAll.2.1 5 = .ok (.getfield 13, 3) := by decide +kernel
theorem d_Mo_comeAll_8 : decode Y_Mo_comeAll.2.1 8 = .ok (.iload_n 1, 1) := by decide +kernel
theorem d_Mo_comeAll_9 : decode Y_Mo_comeAll.2.1 9 = .ok (.iaload, 1) := by decide +kernel
theorem d_Mo_comeAll_10 : decode Y_Mo_comeAll.2.1 10 = .ok (.iconst 1, 1) := by decide +kernel
theorem d_Mo_comeAll_11 : decode Y_Mo_comeAll.2.1 11 = .ok (.isub, 1) := by decide +kernel
theorem d_Mo_comeAll_12 : decode Y_Mo_comeAll.2.1 12 = .ok (.istore 8, 2) := by decide +kernel
theorem d_Mo_comeAll_14 : decode Y_Mo_comeAll.2.1 14 = .ok (.iload 8, 2) := by decide +kernel
theorem d_Mo_comeAll_16 : decode Y_Mo_comeAll.2.1 16 = .ok (.ifCond .lt 84, 3) := by decide +kernel
theorem d_Mo_comeAll_19 : decode Y_Mo_comeAll.2.1 19 = .ok (.aload_n 0, 1) := by decide +kernel
theorem d_Mo_comeAll_20 : decode Y_Mo_comeAll.2.1 20 = .ok (.getfield 16, 3) := by decide +kernel
theorem d_Mo_comeAll_23 : decode Y_Mo_comeAll.2.1 23 = .ok (.iconst 3, 1) := by decide +kernel
theorem d_Mo_comeAll_24 : decode Y_Mo_comeAll.2.1 24 = .ok (.iload_n 1, 1) := by decide +kernel
theorem d_Mo_comeAll_25 : decode Y_Mo_comeAll.2.1 25 = .ok (.imul, 1) := by decide +kernel
theorem d_Mo_comeAll_26 : decode Y_Mo_comeAll.2.1 26 = .ok (.iload 8, 2) := by decide +kernel
theorem d_Mo_comeAll_28 : decode Y_Mo_comeAll.2.1 28 = .ok (.iadd, 1) := by decide +kernel
theorem d_Mo_comeAll_29 : decode Y_Mo_comeAll.2.1 29 = .ok (.iaload, 1) := by decide +kernel
theorem d_Mo_comeAll_30 : decode Y_Mo_comeAll.2.1 30 = .ok (.istore 9, 2) := by decide +kernel
theorem d_Mo_comeAll_32 : decode Y_Mo_comeAll.2.1 32 = .ok (.iload 9, 2) := by decide +kernel
theorem d_Mo_comeAll_34 : decode Y_Mo_comeAll.2.1 34 = .ok (.bipush 8, 2) := by decide +kernel
theorem d_Mo_comeAll_36 : decode Y_Mo_comeAll.2.1 36 = .ok (.if_icmp .ge 58, 3) := by decide +kernel
theorem d_Mo_comeAll_39 : decode Y_Mo_comeAll.2.1 39 = .ok (.iload 9, 2) := by decide +kernel
theorem d_Mo_comeAll_41 : decode Y_Mo_comeAll.2.1 41 = .ok (.aload_n 0, 1) := by decide +kernel
theorem d_Mo_comeAll_42 : decode Y_Mo_comeAll.2.1 42 = .ok (.iload_n 1, 1) := by decide +kernel
theorem d_Mo_comeAll_43 : decode Y_Mo_comeAll.2.1 43 = .ok (.iload 8, 2) := by decide +kernel
theorem d_Mo_comeAll_45 : decode Y_Mo_comeAll.2.1 45 = .ok (.iload_n 2, 1) := by decide +kernel
theorem d_Mo_comeAll_46 : decode Y_Mo_comeAll.2.1 46 = .ok (.iload_n 3, 1) := by decide +kernel
theorem d_Mo_comeAll_47 : decode Y_Mo_comeAll.2.1 47 = .ok (.invokevirtual 123, 3) := by decide +kernel
theorem d_Mo_comeAll_50 : decode Y_Mo_comeAll.2.1 50 = .ok (.aload_n 0, 1) := by decide +kernel
theorem d_Mo_comeAll_51 : decode Y_Mo_comeAll.2.1 51 = .ok (.iload_n 1, 1) := by decide +kernel
theorem d_Mo_comeAll_52 : decode Y_Mo_comeAll.2.1 52 = .ok (.iload 8, 2) := by decide +kernel
theorem d_Mo_comeAll_54 : decode Y_Mo_comeAll.2.1 54 = .ok (.iconst 1, 1) := by decide +kernel
theorem d_Mo_comeAll_55 : decode Y_Mo_comeAll.2.1 55 = .ok (.iadd, 1) := by decide +kernel
theorem d_Mo_comeAll_56 : decode Y_Mo_comeAll.2.1 56 = .ok (.iload_n 2, 1) := by decide +kernel
theorem d_Mo_comeAll_57 : decode Y_Mo_comeAll.2.1 57 = .ok (.iload_n 3, 1) := by decide +kernel
theorem d_Mo_comeAll_58 : decode Y_Mo_comeAll.2.1 58 = .ok (.invokevirtual 123, 3) := by decide +kernel
theorem d_Mo_comeAll_61 : decode Y_Mo_comeAll.2.1 61 = .ok (.invokestatic 113, 3) := by decide +kernel
theorem d_Mo_comeAll_64 : decode Y_Mo_comeAll.2.1 64 = .ok (.istore 10, 2) := by decide +kernel
theorem d_Mo_comeAll_66 : decode Y_Mo_comeAll.2.1 66 = .ok (.aload_n 0, 1) := by decide +kernel
theorem d_Mo_comeAll_67 : decode Y_Mo_comeAll.2.1 67 = .ok (.iload 10, 2) := by decide +kernel
theorem d_Mo_comeAll_69 : decode Y_Mo_comeAll.2.1 69 = .ok (.lload 6, 2) := by decide +kernel
theorem d_Mo_comeAll_71 : decode Y_Mo_comeAll.2.1 71 = .ok (.aload_n 0, 1) := by decide +kernel
theorem d_Mo_comeAll_72 : decode Y_Mo_comeAll.2.1 72 = .ok (.getfield 32, 3) := by decide +kernel
theorem d_Mo_comeAll_75 : decode Y_Mo_comeAll.2.1 75 = .ok (.iload 10, 2) := by decide +kernel
theorem d_Mo_comeAll_77 : decode Y_Mo_comeAll.2.1 77 = .ok (.laload, 1) := by decide +kernel
theorem d_Mo_comeAll_78 : decode Y_Mo_comeAll.2.1 78 = .ok (.lrem, 1) := by decide +kernel
theorem d_Mo_comeAll_79 : decode Y_Mo_comeAll.2.1 79 = .ok (.invokevirtual 179, 3) := by decide +kernel
theorem d_Mo_comeAll_82 : decode Y_Mo_comeAll.2.1 82 = .ok (.lload 6, 2) := by decide +kernel
theorem d_Mo_comeAll_84 : decode Y_Mo_comeAll.2.1 84 = .ok (.aload_n 0, 1) := by decide +kernel
theorem d_Mo_comeAll_85 : decode Y_Mo_comeAll.2.1 85 = .ok (.getfield 32, 3) := by decide +kernel
theorem d_Mo_comeAll_88 : decode Y_Mo_comeAll.2.1 88 = .ok (.iload 10, 2) := by decide +kernel
theorem d_Mo_comeAll_90 : decode Y_Mo_comeAll.2.1 90 = .ok (.laload, 1) := by decide +kernel
theorem d_Mo_comeAll_91 : decode Y_Mo_comeAll.2.1 91 = .ok (.ldiv, 1) := by decide +kernel
theorem d_Mo_comeAll_92 : decode Y_Mo_comeAll.2.1 92 = .ok (.lstore 6, 2) := by decide +kernel
theorem d_Mo_comeAll_94 : decode Y_Mo_comeAll.2.1 94 = .ok (.iinc 8 (-1), 3) := by decide +kernel
theorem d_Mo_comeAll_97 : decode Y_Mo_comeAll.2.1 97 = .ok (.goto (-83), 3) := by decide +kernel
theorem d_Mo_comeAll_100 : decode Y_Mo_comeAll.2.1 100 = .ok (.return_, 1) := by decide +kernel
