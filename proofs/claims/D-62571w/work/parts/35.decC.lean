theorem d_CF_init_0 : decode Y_CF_init.2.1 0 = .ok (.aload_n 0, 1) := by decide +kernel
theorem d_CF_init_1 : decode Y_CF_init.2.1 1 = .ok (.invokespecial 3, 3) := by decide +kernel
theorem d_CF_init_4 : decode Y_CF_init.2.1 4 = .ok (.aload_n 0, 1) := by decide +kernel
theorem d_CF_init_5 : decode Y_CF_init.2.1 5 = .ok (.new 9, 3) := by decide +kernel
theorem d_CF_init_8 : decode Y_CF_init.2.1 8 = .ok (.dup, 1) := by decide +kernel
theorem d_CF_init_9 : decode Y_CF_init.2.1 9 = .ok (.iconst (-1), 1) := by decide +kernel
theorem d_CF_init_10 : decode Y_CF_init.2.1 10 = .ok (.iconst (-1), 1) := by decide +kernel
theorem d_CF_init_11 : decode Y_CF_init.2.1 11 = .ok (.iconst 1, 1) := by decide +kernel
theorem d_CF_init_12 : decode Y_CF_init.2.1 12 = .ok (.iconst 0, 1) := by decide +kernel
theorem d_CF_init_13 : decode Y_CF_init.2.1 13 = .ok (.invokespecial 11, 3) := by decide +kernel
theorem d_CF_init_16 : decode Y_CF_init.2.1 16 = .ok (.putfield 14, 3) := by decide +kernel
theorem d_CF_init_19 : decode Y_CF_init.2.1 19 = .ok (.aload_n 0, 1) := by decide +kernel
theorem d_CF_init_20 : decode Y_CF_init.2.1 20 = .ok (.new 18, 3) := by decide +kernel
theorem d_CF_init_23 : decode Y_CF_init.2.1 23 = .ok (.dup, 1) := by decide +kernel
theorem d_CF_init_24 : decode Y_CF_init.2.1 24 = .ok (.bipush 10, 2) := by decide +kernel
theorem d_CF_init_26 : decode Y_CF_init.2.1 26 = .ok (.invokespecial 20, 3) := by decide +kernel
theorem d_CF_init_29 : decode Y_CF_init.2.1 29 = .ok (.putfield 23, 3) := by decide +kernel
theorem d_CF_init_32 : decode Y_CF_init.2.1 32 = .ok (.aload_n 0, 1) := by decide +kernel
theorem d_CF_init_33 : decode Y_CF_init.2.1 33 = .ok (.bipush 13, 2) := by decide +kernel
theorem d_CF_init_35 : decode Y_CF_init.2.1 35 = .ok (.anewarray 27, 3) := by decide +kernel
theorem d_CF_init_38 : decode Y_CF_init.2.1 38 = .ok (.putfield 29, 3) := by decide +kernel
theorem d_CF_init_41 : decode Y_CF_init.2.1 41 = .ok (.aload_n 0, 1) := by decide +kernel
theorem d_CF_init_42 : decode Y_CF_init.2.1 42 = .ok (.bipush 12, 2) := by decide +kernel
theorem d_CF_init_44 : decode Y_CF_init.2.1 44 = .ok (.newarray .int, 2) := by decide +kernel
theorem d_CF_init_46 : decode Y_CF_init.2.1 46 = .ok (.putfield 33, 3) := by decide +kernel
theorem d_CF_init_49 : decode Y_CF_init.2.1 49 = .ok (.aload_n 0, 1) := by decide +kernel
theorem d_CF_init_50 : decode Y_CF_init.2.1 50 = .ok (.bipush 13, 2) := by decide +kernel
theorem d_CF_init_52 : decode Y_CF_init.2.1 52 = .ok (.anewarray 37, 3) := by decide +kernel
theorem d_CF_init_55 : decode Y_CF_init.2.1 55 = .ok (.putfield 39, 3) := by decide +kernel
theorem d_CF_init_58 : decode Y_CF_init.2.1 58 = .ok (.aload_n 0, 1) := by decide +kernel
theorem d_CF_init_59 : decode Y_CF_init.2.1 59 = .ok (.new 43, 3) := by decide +kernel
theorem d_CF_init_62 : decode Y_CF_init.2.1 62 = .ok (.dup, 1) := by decide +kernel
theorem d_CF_init_63 : decode Y_CF_init.2.1 63 = .ok (.invokespecial 45, 3) := by decide +kernel
theorem d_CF_init_66 : decode Y_CF_init.2.1 66 = .ok (.putfield 46, 3) := by decide +kernel
theorem d_CF_init_69 : decode Y_CF_init.2.1 69 = .ok (.aload_n 0, 1) := by decide +kernel
theorem d_CF_init_70 : decode Y_CF_init.2.1 70 = .ok (.new 43, 3) := by decide +kernel
theorem d_CF_init_73 : decode Y_CF_init.2.1 73 = .ok (.dup, 1) := by decide +kernel
theorem d_CF_init_74 : decode Y_CF_init.2.1 74 = .ok (.invokespecial 45, 3) := by decide +kernel
theorem d_CF_init_77 : decode Y_CF_init.2.1 77 = .ok (.putfield 50, 3) := by decide +kernel
theorem d_CF_init_80 : decode Y_CF_init.2.1 80 = .ok (.aload_n 0, 1) := by decide +kernel
theorem d_CF_init_81 : decode Y_CF_init.2.1 81 = .ok (.new 53, 3) := by decide +kernel
theorem d_CF_init_84 : decode Y_CF_init.2.1 84 = .ok (.dup, 1) := by decide +kernel
theorem d_CF_init_85 : decode Y_CF_init.2.1 85 = .ok (.invokespecial 55, 3) := by decide +kernel
theorem d_CF_init_88 : decode Y_CF_init.2.1 88 = .ok (.putfield 56, 3) := by decide +kernel
theorem d_CF_init_91 : decode Y_CF_init.2.1 91 = .ok (.aload_n 0, 1) := by decide +kernel
theorem d_CF_init_92 : decode Y_CF_init.2.1 92 = .ok (.iconst 5, 1) := by decide +kernel
theorem d_CF_init_93 : decode Y_CF_init.2.1 93 = .ok (.newarray .int, 2) := by decide +kernel
theorem d_CF_init_95 : decode Y_CF_init.2.1 95 = .ok (.putfield 60, 3) := by decide +kernel
theorem d_CF_init_98 : decode Y_CF_init.2.1 98 = .ok (.aload_n 0, 1) := by decide +kernel
theorem d_CF_init_99 : decode Y_CF_init.2.1 99 = .ok (.bipush 65, 2) := by decide +kernel
theorem d_CF_init_101 : decode Y_CF_init.2.1 101 = .ok (.bipush 13, 2) := by decide +kernel
theorem d_CF_init_103 : decode Y_CF_init.2.1 103 = .ok (.multianewarray 63 2, 4) := by decide +kernel
theorem d_CF_init_107 : decode Y_CF_init.2.1 107 = .ok (.putfield 65, 3) := by decide +kernel
theorem d_CF_init_110 : decode Y_CF_init.2.1 110 = .ok (.aload_n 0, 1) := by decide +kernel
theorem d_CF_init_111 : decode Y_CF_init.2.1 111 = .ok (.iload_n 1, 1) := by decide +kernel
theorem d_CF_init_112 : decode Y_CF_init.2.1 112 = .ok (.ifCond .eq 7, 3) := by decide +kernel
theorem d_CF_init_115 : decode Y_CF_init.2.1 115 = .ok (.iconst 1, 1) := by decide +kernel
theorem d_CF_init_116 : decode Y_CF_init.2.1 116 = .ok (.goto 4, 3) := by decide +kernel
theorem d_CF_init_119 : decode Y_CF_init.2.1 119 = .ok (.iconst 0, 1) := by decide +kernel
theorem d_CF_init_120 : decode Y_CF_init.2.1 120 = .ok (.putfield 68, 3) := by decide +kernel
theorem d_CF_init_123 : decode Y_CF_init.2.1 123 = .ok (.iconst 0, 1) := by decide +kernel
theorem d_CF_init_124 : decode Y_CF_init.2.1 124 = .ok (.istore_n 2, 1) := by decide +kernel
theorem d_CF_init_125 : decode Y_CF_init.2.1 125 = .ok (.iload_n 2, 1) := by decide +kernel
theorem d_CF_init_126 : decode Y_CF_init.2.1 126 = .ok (.bipush 13, 2) := by decide +kernel
theorem d_CF_init_128 : decode Y_CF_init.2.1 128 = .ok (.if_icmp .ge 36, 3) := by decide +kernel
theorem d_CF_init_131 : decode Y_CF_init.2.1 131 = .ok (.aload_n 0, 1) := by decide +kernel
theorem d_CF_init_132 : decode Y_CF_init.2.1 132 = .ok (.getfield 29, 3) := by decide +kernel
theorem d_CF_init_135 : decode Y_CF_init.2.1 135 = .ok (.iload_n 2, 1) := by decide +kernel
theorem d_CF_init_136 : decode Y_CF_init.2.1 136 = .ok (.new 27, 3) := by decide +kernel
theorem d_CF_init_139 : decode Y_CF_init.2.1 139 = .ok (.dup, 1) := by decide +kernel
theorem d_CF_init_140 : decode Y_CF_init.2.1 140 = .ok (.invokespecial 72, 3) := by decide +kernel
theorem d_CF_init_143 : decode Y_CF_init.2.1 143 = .ok (.aastore, 1) := by decide +kernel
theorem d_CF_init_144 : decode Y_CF_init.2.1 144 = .ok (.aload_n 0, 1) := by decide +kernel
theorem d_CF_init_145 : decode Y_CF_init.2.1 145 = .ok (.getfield 39, 3) := by decide +kernel
theorem d_CF_init_148 : decode Y_CF_init.2.1 148 = .ok (.iload_n 2, 1) := by decide +kernel
theorem d_CF_init_149 : decode Y_CF_init.2.1 149 = .ok (.new 37, 3) := by decide +kernel
theorem d_CF_init_152 : decode Y_CF_init.2.1 152 = .ok (.dup, 1) := by decide +kernel
theorem d_CF_init_153 : decode Y_CF_init.2.1 153 = .ok (.iload_n 2, 1) := by decide +kernel
theorem d_CF_init_154 : decode Y_CF_init.2.1 154 = .ok (.invokespecial 73, 3) := by decide +kernel
theorem d_CF_init_157 : decode Y_CF_init.2.1 157 = .ok (.aastore, 1) := by decide +kernel
theorem d_CF_init_158 : decode Y_CF_init.2.1 158 = .ok (.iinc 2 1, 3) := by decide +kernel
theorem d_CF_init_161 : decode Y_CF_init.2.1 161 = .ok (.goto (-36), 3) := by decide +kernel
theorem d_CF_init_164 : decode Y_CF_init.2.1 164 = .ok (.aload_n 0, 1) := by decide +kernel
theorem d_CF_init_165 : decode Y_CF_init.2.1 165 = .ok (.getfield 29, 3) := by decide +kernel
theorem d_CF_init_168 : decode Y_CF_init.2.1 168 = .ok (.iconst 0, 1) := by decide +kernel
theorem d_CF_init_169 : decode Y_CF_init.2.1 169 = .ok (.aaload, 1) := by decide +kernel
theorem d_CF_init_170 : decode Y_CF_init.2.1 170 = .ok (.invokevirtual 74, 3) := by decide +kernel
theorem d_CF_init_173 : decode Y_CF_init.2.1 173 = .ok (.aload_n 0, 1) := by decide +kernel
theorem d_CF_init_174 : decode Y_CF_init.2.1 174 = .ok (.getfield 29, 3) := by decide +kernel
theorem d_CF_init_177 : decode Y_CF_init.2.1 177 = .ok (.iconst 0, 1) := by decide +kernel
theorem d_CF_init_178 : decode Y_CF_init.2.1 178 = .ok (.aaload, 1) := by decide +kernel
theorem d_CF_init_179 : decode Y_CF_init.2.1 179 = .ok (.iconst (-1), 1) := by decide +kernel
theorem d_CF_init_180 : decode Y_CF_init.2.1 180 = .ok (.iconst 0, 1) := by decide +kernel
theorem d_CF_init_181 : decode Y_CF_init.2.1 181 = .ok (.iconst 0, 1) := by decide +kernel
theorem d_CF_init_182 : decode Y_CF_init.2.1 182 = .ok (.invokestatic 77, 3) := by decide +kernel
theorem d_CF_init_185 : decode Y_CF_init.2.1 185 = .ok (.invokevirtual 81, 3) := by decide +kernel
theorem d_CF_init_188 : decode Y_CF_init.2.1 188 = .ok (.aload_n 0, 1) := by decide +kernel
theorem d_CF_init_189 : decode Y_CF_init.2.1 189 = .ok (.iconst 0, 1) := by decide +kernel
theorem d_CF_init_190 : decode Y_CF_init.2.1 190 = .ok (.invokevirtual 84, 3) := by decide +kernel
theorem d_CF_init_193 : decode Y_CF_init.2.1 193 = .ok (.return_, 1) := by decide +kernel
theorem d_Ru_init_0 : decode Y_Ru_init.2.1 0 = .ok (.aload_n 0, 1) := by decide +kernel
theorem d_Ru_init_1 : decode Y_Ru_init.2.1 1 = .ok (.invokespecial 3, 3) := by decide +kernel
theorem d_Ru_init_4 : decode Y_Ru_init.2.1 4 = .ok (.aload_n 0, 1) := by decide +kernel
theorem d_Ru_init_5 : decode Y_Ru_init.2.1 5 = .ok (.iload_n 1, 1) := by decide +kernel
theorem d_Ru_init_6 : decode Y_Ru_init.2.1 6 = .ok (.putfield 9, 3) := by decide +kernel
theorem d_Ru_init_9 : decode Y_Ru_init.2.1 9 = .ok (.aload_n 0, 1) := by decide +kernel
theorem d_Ru_init_10 : decode Y_Ru_init.2.1 10 = .ok (.iload_n 2, 1) := by decide +kernel
theorem d_Ru_init_11 : decode Y_Ru_init.2.1 11 = .ok (.putfield 15, 3) := by decide +kernel
theorem d_Ru_init_14 : decode Y_Ru_init.2.1 14 = .ok (.aload_n 0, 1) := by decide +kernel
theorem d_Ru_init_15 : decode Y_Ru_init.2.1 15 = .ok (.iload_n 3, 1) := by decide +kernel
theorem d_Ru_init_16 : decode Y_Ru_init.2.1 16 = .ok (.newarray .int, 2) := by decide +kernel
theorem d_Ru_init_18 : decode Y_Ru_init.2.1 18 = .ok (.putfield 18, 3) := by decide +kernel
theorem d_Ru_init_21 : decode Y_Ru_init.2.1 21 = .ok (.iconst 0, 1) := by decide +kernel
theorem d_Ru_init_22 : decode Y_Ru_init.2.1 22 = .ok (.istore 5, 2) := by decide +kernel
theorem d_Ru_init_24 : decode Y_Ru_init.2.1 24 = .ok (.iload 5, 2) := by decide +kernel
theorem d_Ru_init_26 : decode Y_Ru_init.2.1 26 = .ok (.iload_n 3, 1) := by decide +kernel
theorem d_Ru_init_27 : decode Y_Ru_init.2.1 27 = .ok (.if_icmp .ge 26, 3) := by decide +kernel
theorem d_Ru_init_30 : decode Y_Ru_init.2.1 30 = .ok (.aload_n 0, 1) := by decide +kernel
theorem d_Ru_init_31 : decode Y_Ru_init.2.1 31 = .ok (.getfield 18, 3) := by decide +kernel
theorem d_Ru_init_34 : decode Y_Ru_init.2.1 34 = .ok (.iload 5, 2) := by decide +kernel
theorem d_Ru_init_36 : decode Y_Ru_init.2.1 36 = .ok (.iload 4, 2) := by decide +kernel
theorem d_Ru_init_38 : decode Y_Ru_init.2.1 38 = .ok (.iconst 4, 1) := by decide +kernel
theorem d_Ru_init_39 : decode Y_Ru_init.2.1 39 = .ok (.iload 5, 2) := by decide +kernel
theorem d_Ru_init_41 : decode Y_Ru_init.2.1 41 = .ok (.imul, 1) := by decide +kernel
theorem d_Ru_init_42 : decode Y_Ru_init.2.1 42 = .ok (.ishr, 1) := by decide +kernel
theorem d_Ru_init_43 : decode Y_Ru_init.2.1 43 = .ok (.bipush 15, 2) := by decide +kernel
theorem d_Ru_init_45 : decode Y_Ru_init.2.1 45 = .ok (.iand, 1) := by decide +kernel
theorem d_Ru_init_46 : decode Y_Ru_init.2.1 46 = .ok (.iastore, 1) := by decide +kernel
theorem d_Ru_init_47 : decode Y_Ru_init.2.1 47 = .ok (.iinc 5 1, 3) := by decide +kernel
theorem d_Ru_init_50 : decode Y_Ru_init.2.1 50 = .ok (.goto (-26), 3) := by decide +kernel
theorem d_Ru_init_53 : decode Y_Ru_init.2.1 53 = .ok (.return_, 1) := by decide +kernel
theorem d_Al_init_0 : decode Y_Al_init.2.1 0 = .ok (.aload_n 0, 1) := by decide +kernel
theorem d_Al_init_1 : decode Y_Al_init.2.1 1 = .ok (.invokespecial 1, 3) := by decide +kernel
theorem d_Al_init_4 : decode Y_Al_init.2.1 4 = .ok (.iload_n 1, 1) := by decide +kernel
theorem d_Al_init_5 : decode Y_Al_init.2.1 5 = .ok (.ifCond .le 14, 3) := by decide +kernel
theorem d_Al_init_8 : decode Y_Al_init.2.1 8 = .ok (.aload_n 0, 1) := by decide +kernel
theorem d_Al_init_9 : decode Y_Al_init.2.1 9 = .ok (.iload_n 1, 1) := by decide +kernel
theorem d_Al_init_10 : decode Y_Al_init.2.1 10 = .ok (.anewarray 7, 3) := by decide +kernel
theorem d_Al_init_13 : decode Y_Al_init.2.1 13 = .ok (.putfield 9, 3) := by decide +kernel
theorem d_Al_init_16 : decode Y_Al_init.2.1 16 = .ok (.goto 44, 3) := by decide +kernel
theorem d_Al_init_19 : decode Y_Al_init.2.1 19 = .ok (.iload_n 1, 1) := by decide +kernel
theorem d_Al_init_20 : decode Y_Al_init.2.1 20 = .ok (.ifCond .ne 13, 3) := by decide +kernel
theorem d_Al_init_23 : decode Y_Al_init.2.1 23 = .ok (.aload_n 0, 1) := by decide +kernel
theorem d_Al_init_24 : decode Y_Al_init.2.1 24 = .ok (.getstatic 15, 3) := by decide +kernel
theorem d_Al_init_27 : decode Y_Al_init.2.1 27 = .ok (.putfield 9, 3) := by decide +kernel
theorem d_Al_init_30 : decode Y_Al_init.2.1 30 = .ok (.goto 30, 3) := by decide +kernel
theorem d_Al_init_33 : decode Y_Al_init.2.1 33 = .ok (.new 18, 3) := by decide +kernel
theorem d_Al_init_36 : decode Y_Al_init.2.1 36 = .ok (.dup, 1) := by decide +kernel
theorem d_Al_init_37 : decode Y_Al_init.2.1 37 = .ok (.new 20, 3) := by decide +kernel
theorem d_Al_init_40 : decode Y_Al_init.2.1 40 = .ok (.dup, 1) := by decide +kernel
theorem d_Al_init_41 : decode Y_Al_init.2.1 41 = .ok (.invokespecial 22, 3) := by decide +kernel
theorem d_Al_init_44 : decode Y_Al_init.2.1 44 = .ok (.ldc 23, 2) := by decide +kernel
theorem d_Al_init_46 : decode Y_Al_init.2.1 46 = .ok (.invokevirtual 25, 3) := by decide +kernel
theorem d_Al_init_49 : decode Y_Al_init.2.1 49 = .ok (.iload_n 1, 1) := by decide +kernel
theorem d_Al_init_50 : decode Y_Al_init.2.1 50 = .ok (.invokevirtual 29, 3) := by decide +kernel
theorem d_Al_init_53 : decode Y_Al_init.2.1 53 = .ok (.invokevirtual 32, 3) := by decide +kernel
theorem d_Al_init_56 : decode Y_Al_init.2.1 56 = .ok (.invokespecial 36, 3) := by decide +kernel
theorem d_Al_init_59 : decode Y_Al_init.2.1 59 = .ok (.athrow, 1) := by decide +kernel
theorem d_Al_init_60 : decode Y_Al_init.2.1 60 = .ok (.return_, 1) := by decide +kernel
theorem d_Wa_init_0 : decode Y_Wa_init.2.1 0 = .ok (.aload_n 0, 1) := by decide +kernel
theorem d_Wa_init_1 : decode Y_Wa_init.2.1 1 = .ok (.invokespecial 3, 3) := by decide +kernel
theorem d_Wa_init_4 : decode Y_Wa_init.2.1 4 = .ok (.aload_n 0, 1) := by decide +kernel
theorem d_Wa_init_5 : decode Y_Wa_init.2.1 5 = .ok (.iconst 4, 1) := by decide +kernel
theorem d_Wa_init_6 : decode Y_Wa_init.2.1 6 = .ok (.newarray .int, 2) := by decide +kernel
theorem d_Wa_init_8 : decode Y_Wa_init.2.1 8 = .ok (.putfield 9, 3) := by decide +kernel
theorem d_Wa_init_11 : decode Y_Wa_init.2.1 11 = .ok (.return_, 1) := by decide +kernel
theorem d_St_init_0 : decode Y_St_init.2.1 0 = .ok (.aload_n 0, 1) := by decide +kernel
theorem d_St_init_1 : decode Y_St_init.2.1 1 = .ok (.invokespecial 1, 3) := by decide +kernel
theorem d_St_init_4 : decode Y_St_init.2.1 4 = .ok (.aload_n 0, 1) := by decide +kernel
theorem d_St_init_5 : decode Y_St_init.2.1 5 = .ok (.sipush 256, 3) := by decide +kernel
theorem d_St_init_8 : decode Y_St_init.2.1 8 = .ok (.newarray .int, 2) := by decide +kernel
theorem d_St_init_10 : decode Y_St_init.2.1 10 = .ok (.putfield 7, 3) := by decide +kernel
theorem d_St_init_13 : decode Y_St_init.2.1 13 = .ok (.aload_n 0, 1) := by decide +kernel
theorem d_St_init_14 : decode Y_St_init.2.1 14 = .ok (.sipush 256, 3) := by decide +kernel
theorem d_St_init_17 : decode Y_St_init.2.1 17 = .ok (.newarray .int, 2) := by decide +kernel
theorem d_St_init_19 : decode Y_St_init.2.1 19 = .ok (.putfield 13, 3) := by decide +kernel
theorem d_St_init_22 : decode Y_St_init.2.1 22 = .ok (.aload_n 0, 1) := by decide +kernel
theorem d_St_init_23 : decode Y_St_init.2.1 23 = .ok (.sipush 256, 3) := by decide +kernel
theorem d_St_init_26 : decode Y_St_init.2.1 26 = .ok (.newarray .int, 2) := by decide +kernel
theorem d_St_init_28 : decode Y_St_init.2.1 28 = .ok (.putfield 16, 3) := by decide +kernel
theorem d_St_init_31 : decode Y_St_init.2.1 31 = .ok (.aload_n 0, 1) := by decide +kernel
theorem d_St_init_32 : decode Y_St_init.2.1 32 = .ok (.sipush 256, 3) := by decide +kernel
theorem d_St_init_35 : decode Y_St_init.2.1 35 = .ok (.newarray .long, 2) := by decide +kernel
theorem d_St_init_37 : decode Y_St_init.2.1 37 = .ok (.putfield 19, 3) := by decide +kernel
theorem d_St_init_40 : decode Y_St_init.2.1 40 = .ok (.return_, 1) := by decide +kernel
theorem d_Se_init_0 : decode Y_Se_init.2.1 0 = .ok (.aload_n 0, 1) := by decide +kernel
theorem d_Se_init_1 : decode Y_Se_init.2.1 1 = .ok (.invokespecial 3, 3) := by decide +kernel
theorem d_Se_init_4 : decode Y_Se_init.2.1 4 = .ok (.aload_n 0, 1) := by decide +kernel
theorem d_Se_init_5 : decode Y_Se_init.2.1 5 = .ok (.sipush 572, 3) := by decide +kernel
theorem d_Se_init_8 : decode Y_Se_init.2.1 8 = .ok (.newarray .short, 2) := by decide +kernel
theorem d_Se_init_10 : decode Y_Se_init.2.1 10 = .ok (.putfield 9, 3) := by decide +kernel
theorem d_Se_init_13 : decode Y_Se_init.2.1 13 = .ok (.aload_n 0, 1) := by decide +kernel
theorem d_Se_init_14 : decode Y_Se_init.2.1 14 = .ok (.bipush 9, 2) := by decide +kernel
theorem d_Se_init_16 : decode Y_Se_init.2.1 16 = .ok (.newarray .long, 2) := by decide +kernel
theorem d_Se_init_18 : decode Y_Se_init.2.1 18 = .ok (.putfield 15, 3) := by decide +kernel
theorem d_Se_init_21 : decode Y_Se_init.2.1 21 = .ok (.aload_n 0, 1) := by decide +kernel
theorem d_Se_init_22 : decode Y_Se_init.2.1 22 = .ok (.iconst 5, 1) := by decide +kernel
theorem d_Se_init_23 : decode Y_Se_init.2.1 23 = .ok (.newarray .int, 2) := by decide +kernel
theorem d_Se_init_25 : decode Y_Se_init.2.1 25 = .ok (.putfield 19, 3) := by decide +kernel
theorem d_Se_init_28 : decode Y_Se_init.2.1 28 = .ok (.return_, 1) := by decide +kernel
theorem d_Co_init_0 : decode Y_Co_init.2.1 0 = .ok (.aload_n 0, 1) := by decide +kernel
theorem d_Co_init_1 : decode Y_Co_init.2.1 1 = .ok (.invokespecial 3, 3) := by decide +kernel
theorem d_Co_init_4 : decode Y_Co_init.2.1 4 = .ok (.aload_n 0, 1) := by decide +kernel
theorem d_Co_init_5 : decode Y_Co_init.2.1 5 = .ok (.iload_n 1, 1) := by decide +kernel
theorem d_Co_init_6 : decode Y_Co_init.2.1 6 = .ok (.iconst 1, 1) := by decide +kernel
theorem d_Co_init_7 : decode Y_Co_init.2.1 7 = .ok (.iadd, 1) := by decide +kernel
theorem d_Co_init_8 : decode Y_Co_init.2.1 8 = .ok (.newarray .int, 2) := by decide +kernel
theorem d_Co_init_10 : decode Y_Co_init.2.1 10 = .ok (.putfield 9, 3) := by decide +kernel
theorem d_Co_init_13 : decode Y_Co_init.2.1 13 = .ok (.aload_n 0, 1) := by decide +kernel
theorem d_Co_init_14 : decode Y_Co_init.2.1 14 = .ok (.iload_n 1, 1) := by decide +kernel
theorem d_Co_init_15 : decode Y_Co_init.2.1 15 = .ok (.iconst 1, 1) := by decide +kernel
theorem d_Co_init_16 : decode Y_Co_init.2.1 16 = .ok (.iadd, 1) := by decide +kernel
theorem d_Co_init_17 : decode Y_Co_init.2.1 17 = .ok (.iconst 5, 1) := by decide +kernel
theorem d_Co_init_18 : decode Y_Co_init.2.1 18 = .ok (.multianewarray 15 2, 4) := by decide +kernel
theorem d_Co_init_22 : decode Y_Co_init.2.1 22 = .ok (.putfield 17, 3) := by decide +kernel
theorem d_Co_init_25 : decode Y_Co_init.2.1 25 = .ok (.return_, 1) := by decide +kernel
theorem d_Se_clear_0 : decode Y_Se_clear.2.1 0 = .ok (.aload_n 0, 1) := by decide +kernel
theorem d_Se_clear_1 : decode Y_Se_clear.2.1 1 = .ok (.iconst 0, 1) := by decide +kernel
theorem d_Se_clear_2 : decode Y_Se_clear.2.1 2 = .ok (.putfield 23, 3) := by decide +kernel
theorem d_Se_clear_5 : decode Y_Se_clear.2.1 5 = .ok (.aload_n 0, 1) := by decide +kernel
theorem d_Se_clear_6 : decode Y_Se_clear.2.1 6 = .ok (.iconst 0, 1) := by decide +kernel
theorem d_Se_clear_7 : decode Y_Se_clear.2.1 7 = .ok (.putfield 27, 3) := by decide +kernel
theorem d_Se_clear_10 : decode Y_Se_clear.2.1 10 = .ok (.iconst 0, 1) := by decide +kernel
theorem d_Se_clear_11 : decode Y_Se_clear.2.1 11 = .ok (.istore_n 1, 1) := by decide +kernel
theorem d_Se_clear_12 : decode Y_Se_clear.2.1 12 = .ok (.iload_n 1, 1) := by decide +kernel
theorem d_Se_clear_13 : decode Y_Se_clear.2.1 13 = .ok (.aload_n 0, 1) := by decide +kernel
theorem d_Se_clear_14 : decode Y_Se_clear.2.1 14 = .ok (.getfield 15, 3) := by decide +kernel
theorem d_Se_clear_17 : decode Y_Se_clear.2.1 17 = .ok (.arraylength, 1) := by decide +kernel
theorem d_Se_clear_18 : decode Y_Se_clear.2.1 18 = .ok (.if_icmp .ge 16, 3) := by decide +kernel
theorem d_Se_clear_21 : decode Y_Se_clear.2.1 21 = .ok (.aload_n 0, 1) := by decide +kernel
theorem d_Se_clear_22 : decode Y_Se_clear.2.1 22 = .ok (.getfield 15, 3) := by decide +kernel
theorem d_Se_clear_25 : decode Y_Se_clear.2.1 25 = .ok (.iload_n 1, 1) := by decide +kernel
theorem d_Se_clear_26 : decode Y_Se_clear.2.1 26 = .ok (.lconst 0, 1) := by decide +kernel
theorem d_Se_clear_27 : decode Y_Se_clear.2.1 27 = .ok (.lastore, 1) := by decide +kernel
theorem d_Se_clear_28 : decode Y_Se_clear.2.1 28 = .ok (.iinc 1 1, 3) := by decide +kernel
theorem d_Se_clear_31 : decode Y_Se_clear.2.1 31 = .ok (.goto (-19), 3) := by decide +kernel
theorem d_Se_clear_34 : decode Y_Se_clear.2.1 34 = .ok (.iconst 0, 1) := by decide +kernel
theorem d_Se_clear_35 : decode Y_Se_clear.2.1 35 = .ok (.istore_n 1, 1) := by decide +kernel
theorem d_Se_clear_36 : decode Y_Se_clear.2.1 36 = .ok (.iload_n 1, 1) := by decide +kernel
theorem d_Se_clear_37 : decode Y_Se_clear.2.1 37 = .ok (.iconst 5, 1) := by decide +kernel
theorem d_Se_clear_38 : decode Y_Se_clear.2.1 38 = .ok (.if_icmp .ge 16, 3) := by decide +kernel
theorem d_Se_clear_41 : decode Y_Se_clear.2.1 41 = .ok (.aload_n 0, 1) := by decide +kernel
theorem d_Se_clear_42 : decode Y_Se_clear.2.1 42 = .ok (.getfield 19, 3) := by decide +kernel
theorem d_Se_clear_45 : decode Y_Se_clear.2.1 45 = .ok (.iload_n 1, 1) := by decide +kernel
theorem d_Se_clear_46 : decode Y_Se_clear.2.1 46 = .ok (.iconst (-1), 1) := by decide +kernel
theorem d_Se_clear_47 : decode Y_Se_clear.2.1 47 = .ok (.iastore, 1) := by decide +kernel
theorem d_Se_clear_48 : decode Y_Se_clear.2.1 48 = .ok (.iinc 1 1, 3) := by decide +kernel
theorem d_Se_clear_51 : decode Y_Se_clear.2.1 51 = .ok (.goto (-15), 3) := by decide +kernel
theorem d_Se_clear_54 : decode Y_Se_clear.2.1 54 = .ok (.return_, 1) := by decide +kernel
theorem d_CF_pack_0 : decode Y_CF_pack.2.1 0 = .ok (.iload_n 0, 1) := by decide +kernel
theorem d_CF_pack_1 : decode Y_CF_pack.2.1 1 = .ok (.iconst 1, 1) := by decide +kernel
theorem d_CF_pack_2 : decode Y_CF_pack.2.1 2 = .ok (.iadd, 1) := by decide +kernel
theorem d_CF_pack_3 : decode Y_CF_pack.2.1 3 = .ok (.iconst 4, 1) := by decide +kernel
theorem d_CF_pack_4 : decode Y_CF_pack.2.1 4 = .ok (.imul, 1) := by decide +kernel
theorem d_CF_pack_5 : decode Y_CF_pack.2.1 5 = .ok (.iload_n 1, 1) := by decide +kernel
theorem d_CF_pack_6 : decode Y_CF_pack.2.1 6 = .ok (.iadd, 1) := by decide +kernel
theorem d_CF_pack_7 : decode Y_CF_pack.2.1 7 = .ok (.bipush 13, 2) := by decide +kernel
theorem d_CF_pack_9 : decode Y_CF_pack.2.1 9 = .ok (.imul, 1) := by decide +kernel
theorem d_CF_pack_10 : decode Y_CF_pack.2.1 10 = .ok (.iload_n 2, 1) := by decide +kernel
theorem d_CF_pack_11 : decode Y_CF_pack.2.1 11 = .ok (.iadd, 1) := by decide +kernel
theorem d_CF_pack_12 : decode Y_CF_pack.2.1 12 = .ok (.ireturn, 1) := by decide +kernel
theorem d_Se_add_0 : decode Y_Se_add.2.1 0 = .ok (.aload_n 0, 1) := by decide +kernel
theorem d_Se_add_1 : decode Y_Se_add.2.1 1 = .ok (.iload_n 1, 1) := by decide +kernel
theorem d_Se_add_2 : decode Y_Se_add.2.1 2 = .ok (.invokevirtual 30, 3) := by decide +kernel
theorem d_Se_add_5 : decode Y_Se_add.2.1 5 = .ok (.ifCond .eq 4, 3) := by decide +kernel
theorem d_Se_add_8 : decode Y_Se_add.2.1 8 = .ok (.return_, 1) := by decide +kernel
theorem d_Se_add_9 : decode Y_Se_add.2.1 9 = .ok (.aload_n 0, 1) := by decide +kernel
theorem d_Se_add_10 : decode Y_Se_add.2.1 10 = .ok (.getfield 15, 3) := by decide +kernel
theorem d_Se_add_13 : decode Y_Se_add.2.1 13 = .ok (.iload_n 1, 1) := by decide +kernel
theorem d_Se_add_14 : decode Y_Se_add.2.1 14 = .ok (.bipush 6, 2) := by decide +kernel
theorem d_Se_add_16 : decode Y_Se_add.2.1 16 = .ok (.ishr, 1) := by decide +kernel
theorem d_Se_add_17 : decode Y_Se_add.2.1 17 = .ok (.dup2, 1) := by decide +kernel
theorem d_Se_add_18 : decode Y_Se_add.2.1 18 = .ok (.laload, 1) := by decide +kernel
theorem d_Se_add_19 : decode Y_Se_add.2.1 19 = .ok (.lconst 1, 1) := by decide +kernel
theorem d_Se_add_20 : decode Y_Se_add.2.1 20 = .ok (.iload_n 1, 1) := by decide +kernel
theorem d_Se_add_21 : decode Y_Se_add.2.1 21 = .ok (.bipush 63, 2) := by decide +kernel
theorem d_Se_add_23 : decode Y_Se_add.2.1 23 = .ok (.iand, 1) := by decide +kernel
theorem d_Se_add_24 : decode Y_Se_add.2.1 24 = .ok (.lshl, 1) := by decide +kernel
theorem d_Se_add_25 : decode Y_Se_add.2.1 25 = .ok (.lor, 1) := by decide +kernel
theorem d_Se_add_26 : decode Y_Se_add.2.1 26 = .ok (.lastore, 1) := by decide +kernel
theorem d_Se_add_27 : decode Y_Se_add.2.1 27 = .ok (.aload_n 0, 1) := by decide +kernel
theorem d_Se_add_28 : decode Y_Se_add.2.1 28 = .ok (.getfield 9, 3) := by decide +kernel
theorem d_Se_add_31 : decode Y_Se_add.2.1 31 = .ok (.aload_n 0, 1) := by decide +kernel
theorem d_Se_add_32 : decode Y_Se_add.2.1 32 = .ok (.dup, 1) := by decide +kernel
theorem d_Se_add_33 : decode Y_Se_add.2.1 33 = .ok (.getfield 23, 3) := by decide +kernel
theorem d_Se_add_36 : decode Y_Se_add.2.1 36 = .ok (.dup_x1, 1) := by decide +kernel
theorem d_Se_add_37 : decode Y_Se_add.2.1 37 = .ok (.iconst 1, 1) := by decide +kernel
theorem d_Se_add_38 : decode Y_Se_add.2.1 38 = .ok (.iadd, 1) := by decide +kernel
theorem d_Se_add_39 : decode Y_Se_add.2.1 39 = .ok (.putfield 23, 3) := by decide +kernel
theorem d_Se_add_42 : decode Y_Se_add.2.1 42 = .ok (.iload_n 1, 1) := by decide +kernel
theorem d_Se_add_43 : decode Y_Se_add.2.1 43 = .ok (.i2s, 1) := by decide +kernel
theorem d_Se_add_44 : decode Y_Se_add.2.1 44 = .ok (.sastore, 1) := by decide +kernel
theorem d_Se_add_45 : decode Y_Se_add.2.1 45 = .ok (.return_, 1) := by decide +kernel
theorem d_Se_contains_0 : decode Y_Se_contains.2.1 0 = .ok (.aload_n 0, 1) := by decide +kernel
theorem d_Se_contains_1 : decode Y_Se_contains.2.1 1 = .ok (.getfield 15, 3) := by decide +kernel
theorem d_Se_contains_4 : decode Y_Se_contains.2.1 4 = .ok (.iload_n 1, 1) := by decide +kernel
theorem d_Se_contains_5 : decode Y_Se_contains.2.1 5 = .ok (.bipush 6, 2) := by decide +kernel
theorem d_Se_contains_7 : decode Y_Se_contains.2.1 7 = .ok (.ishr, 1) := by decide +kernel
theorem d_Se_contains_8 : decode Y_Se_contains.2.1 8 = .ok (.laload, 1) := by decide +kernel
theorem d_Se_contains_9 : decode Y_Se_contains.2.1 9 = .ok (.iload_n 1, 1) := by decide +kernel
theorem d_Se_contains_10 : decode Y_Se_contains.2.1 10 = .ok (.bipush 63, 2) := by decide +kernel
theorem d_Se_contains_12 : decode Y_Se_contains.2.1 12 = .ok (.iand, 1) := by decide +kernel
theorem d_Se_contains_13 : decode Y_Se_contains.2.1 13 = .ok (.lshr, 1) := by decide +kernel
theorem d_Se_contains_14 : decode Y_Se_contains.2.1 14 = .ok (.lconst 1, 1) := by decide +kernel
theorem d_Se_contains_15 : decode Y_Se_contains.2.1 15 = .ok (.land, 1) := by decide +kernel
theorem d_Se_contains_16 : decode Y_Se_contains.2.1 16 = .ok (.lconst 1, 1) := by decide +kernel
theorem d_Se_contains_17 : decode Y_Se_contains.2.1 17 = .ok (.lcmp, 1) := by decide +kernel
theorem d_Se_contains_18 : decode Y_Se_contains.2.1 18 = .ok (.ifCond .ne 7, 3) := by decide +kernel
theorem d_Se_contains_21 : decode Y_Se_contains.2.1 21 = .ok (.iconst 1, 1) := by decide +kernel
theorem d_Se_contains_22 : decode Y_Se_contains.2.1 22 = .ok (.goto 4, 3) := by decide +kernel
theorem d_Se_contains_25 : decode Y_Se_contains.2.1 25 = .ok (.iconst 0, 1) := by decide +kernel
theorem d_Se_contains_26 : decode Y_Se_contains.2.1 26 = .ok (.ireturn, 1) := by decide +kernel
theorem d_CF_close_0 : decode Y_CF_close.2.1 0 = .ok (.aload_n 0, 1) := by decide +kernel
theorem d_CF_close_1 : decode Y_CF_close.2.1 1 = .ok (.getfield 29, 3) := by decide +kernel
theorem d_CF_close_4 : decode Y_CF_close.2.1 4 = .ok (.iload_n 1, 1) := by decide +kernel
theorem d_CF_close_5 : decode Y_CF_close.2.1 5 = .ok (.aaload, 1) := by decide +kernel
theorem d_CF_close_6 : decode Y_CF_close.2.1 6 = .ok (.astore_n 2, 1) := by decide +kernel
theorem d_CF_close_7 : decode Y_CF_close.2.1 7 = .ok (.iconst 0, 1) := by decide +kernel
theorem d_CF_close_8 : decode Y_CF_close.2.1 8 = .ok (.istore_n 3, 1) := by decide +kernel
theorem d_CF_close_9 : decode Y_CF_close.2.1 9 = .ok (.iload_n 3, 1) := by decide +kernel
theorem d_CF_close_10 : decode Y_CF_close.2.1 10 = .ok (.aload_n 2, 1) := by decide +kernel
theorem d_CF_close_11 : decode Y_CF_close.2.1 11 = .ok (.getfield 136, 3) := by decide +kernel
theorem d_CF_close_14 : decode Y_CF_close.2.1 14 = .ok (.if_icmp .ge 109, 3) := by decide +kernel
theorem d_CF_close_17 : decode Y_CF_close.2.1 17 = .ok (.aload_n 2, 1) := by decide +kernel
theorem d_CF_close_18 : decode Y_CF_close.2.1 18 = .ok (.getfield 139, 3) := by decide +kernel
theorem d_CF_close_21 : decode Y_CF_close.2.1 21 = .ok (.iload_n 3, 1) := by decide +kernel
theorem d_CF_close_22 : decode Y_CF_close.2.1 22 = .ok (.saload, 1) := by decide +kernel
theorem d_CF_close_23 : decode Y_CF_close.2.1 23 = .ok (.istore 4, 2) := by decide +kernel
theorem d_CF_close_25 : decode Y_CF_close.2.1 25 = .ok (.aload_n 0, 1) := by decide +kernel
theorem d_CF_close_26 : decode Y_CF_close.2.1 26 = .ok (.iload 4, 2) := by decide +kernel
theorem d_CF_close_28 : decode Y_CF_close.2.1 28 = .ok (.invokevirtual 143, 3) := by decide +kernel
theorem d_CF_close_31 : decode Y_CF_close.2.1 31 = .ok (.istore 5, 2) := by decide +kernel
theorem d_CF_close_33 : decode Y_CF_close.2.1 33 = .ok (.iload 5, 2) := by decide +kernel
theorem d_CF_close_35 : decode Y_CF_close.2.1 35 = .ok (.invokestatic 95, 3) := by decide +kernel
theorem d_CF_close_38 : decode Y_CF_close.2.1 38 = .ok (.ifCond .eq 36, 3) := by decide +kernel
theorem d_CF_close_41 : decode Y_CF_close.2.1 41 = .ok (.aload_n 0, 1) := by decide +kernel
theorem d_CF_close_42 : decode Y_CF_close.2.1 42 = .ok (.aload_n 2, 1) := by decide +kernel
theorem d_CF_close_43 : decode Y_CF_close.2.1 43 = .ok (.iload 5, 2) := by decide +kernel
theorem d_CF_close_45 : decode Y_CF_close.2.1 45 = .ok (.iload_n 1, 1) := by decide +kernel
theorem d_CF_close_46 : decode Y_CF_close.2.1 46 = .ok (.invokevirtual 157, 3) := by decide +kernel
theorem d_CF_close_49 : decode Y_CF_close.2.1 49 = .ok (.aload_n 2, 1) := by decide +kernel
theorem d_CF_close_50 : decode Y_CF_close.2.1 50 = .ok (.getfield 147, 3) := by decide +kernel
theorem d_CF_close_53 : decode Y_CF_close.2.1 53 = .ok (.iload 5, 2) := by decide +kernel
theorem d_CF_close_55 : decode Y_CF_close.2.1 55 = .ok (.ishr, 1) := by decide +kernel
theorem d_CF_close_56 : decode Y_CF_close.2.1 56 = .ok (.iconst 1, 1) := by decide +kernel
theorem d_CF_close_57 : decode Y_CF_close.2.1 57 = .ok (.iand, 1) := by decide +kernel
theorem d_CF_close_58 : decode Y_CF_close.2.1 58 = .ok (.iconst 1, 1) := by decide +kernel
theorem d_CF_close_59 : decode Y_CF_close.2.1 59 = .ok (.if_icmp .ne 58, 3) := by decide +kernel
theorem d_CF_close_62 : decode Y_CF_close.2.1 62 = .ok (.aload_n 2, 1) := by decide +kernel
theorem d_CF_close_63 : decode Y_CF_close.2.1 63 = .ok (.iload 4, 2) := by decide +kernel
theorem d_CF_close_65 : decode Y_CF_close.2.1 65 = .ok (.bipush 13, 2) := by decide +kernel
theorem d_CF_close_67 : decode Y_CF_close.2.1 67 = .ok (.iadd, 1) := by decide +kernel
theorem d_CF_close_68 : decode Y_CF_close.2.1 68 = .ok (.invokevirtual 81, 3) := by decide +kernel
theorem d_CF_close_71 : decode Y_CF_close.2.1 71 = .ok (.goto 46, 3) := by decide +kernel
theorem d_CF_close_74 : decode Y_CF_close.2.1 74 = .ok (.iload 5, 2) := by decide +kernel
theorem d_CF_close_76 : decode Y_CF_close.2.1 76 = .ok (.iconst (-1), 1) := by decide +kernel
theorem d_CF_close_77 : decode Y_CF_close.2.1 77 = .ok (.if_icmp .ne 40, 3) := by decide +kernel
theorem d_CF_close_80 : decode Y_CF_close.2.1 80 = .ok (.iload 4, 2) := by decide +kernel
theorem d_CF_close_82 : decode Y_CF_close.2.1 82 = .ok (.invokestatic 122, 3) := by decide +kernel
theorem d_CF_close_85 : decode Y_CF_close.2.1 85 = .ok (.ifCond .lt 32, 3) := by decide +kernel
theorem d_CF_close_88 : decode Y_CF_close.2.1 88 = .ok (.aload_n 0, 1) := by decide +kernel
theorem d_CF_close_89 : decode Y_CF_close.2.1 89 = .ok (.aload_n 2, 1) := by decide +kernel
theorem d_CF_close_90 : decode Y_CF_close.2.1 90 = .ok (.iload_n 1, 1) := by decide +kernel
theorem d_CF_close_91 : decode Y_CF_close.2.1 91 = .ok (.aload_n 0, 1) := by decide +kernel
theorem d_CF_close_92 : decode Y_CF_close.2.1 92 = .ok (.getfield 23, 3) := by decide +kernel
theorem d_CF_close_95 : decode Y_CF_close.2.1 95 = .ok (.iload 4, 2) := by decide +kernel
theorem d_CF_close_97 : decode Y_CF_close.2.1 97 = .ok (.invokestatic 122, 3) := by decide +kernel
theorem d_CF_close_100 : decode Y_CF_close.2.1 100 = .ok (.invokevirtual 87, 3) := by decide +kernel
theorem d_CF_close_103 : decode Y_CF_close.2.1 103 = .ok (.checkcast 9, 3) := by decide +kernel
theorem d_CF_close_106 : decode Y_CF_close.2.1 106 = .ok (.getfield 144, 3) := by decide +kernel
theorem d_CF_close_109 : decode Y_CF_close.2.1 109 = .ok (.iload 4, 2) := by decide +kernel
theorem d_CF_close_111 : decode Y_CF_close.2.1 111 = .ok (.invokestatic 161, 3) := by decide +kernel
theorem d_CF_close_114 : decode Y_CF_close.2.1 114 = .ok (.invokevirtual 164, 3) := by decide +kernel
theorem d_CF_close_117 : decode Y_CF_close.2.1 117 = .ok (.iinc 3 1, 3) := by decide +kernel
theorem d_CF_close_120 : decode Y_CF_close.2.1 120 = .ok (.goto (-111), 3) := by decide +kernel
theorem d_CF_close_123 : decode Y_CF_close.2.1 123 = .ok (.iconst 0, 1) := by decide +kernel
theorem d_CF_close_124 : decode Y_CF_close.2.1 124 = .ok (.istore_n 3, 1) := by decide +kernel
theorem d_CF_close_125 : decode Y_CF_close.2.1 125 = .ok (.iload_n 3, 1) := by decide +kernel
theorem d_CF_close_126 : decode Y_CF_close.2.1 126 = .ok (.iconst 5, 1) := by decide +kernel
theorem d_CF_close_127 : decode Y_CF_close.2.1 127 = .ok (.if_icmp .ge 29, 3) := by decide +kernel
theorem d_CF_close_130 : decode Y_CF_close.2.1 130 = .ok (.aload_n 0, 1) := by decide +kernel
theorem d_CF_close_131 : decode Y_CF_close.2.1 131 = .ok (.getfield 68, 3) := by decide +kernel
theorem d_CF_close_134 : decode Y_CF_close.2.1 134 = .ok (.ifCond .eq 22, 3) := by decide +kernel
theorem d_CF_close_137 : decode Y_CF_close.2.1 137 = .ok (.aload_n 2, 1) := by decide +kernel
theorem d_CF_close_138 : decode Y_CF_close.2.1 138 = .ok (.getfield 154, 3) := by decide +kernel
theorem d_CF_close_141 : decode Y_CF_close.2.1 141 = .ok (.iload_n 3, 1) := by decide +kernel
theorem d_CF_close_142 : decode Y_CF_close.2.1 142 = .ok (.aload_n 0, 1) := by decide +kernel
theorem d_CF_close_143 : decode Y_CF_close.2.1 143 = .ok (.aload_n 2, 1) := by decide +kernel
theorem d_CF_close_144 : decode Y_CF_close.2.1 144 = .ok (.iload_n 1, 1) := by decide +kernel
theorem d_CF_close_145 : decode Y_CF_close.2.1 145 = .ok (.iload_n 3, 1) := by decide +kernel
theorem d_CF_close_146 : decode Y_CF_close.2.1 146 = .ok (.invokevirtual 168, 3) := by decide +kernel
theorem d_CF_close_149 : decode Y_CF_close.2.1 149 = .ok (.iastore, 1) := by decide +kernel
theorem d_CF_close_150 : decode Y_CF_close.2.1 150 = .ok (.iinc 3 1, 3) := by decide +kernel
theorem d_CF_close_153 : decode Y_CF_close.2.1 153 = .ok (.goto (-28), 3) := by decide +kernel
theorem d_CF_close_156 : decode Y_CF_close.2.1 156 = .ok (.return_, 1) := by decide +kernel
theorem d_CF_behind_0 : decode Y_CF_behind.2.1 0 = .ok (.aload_n 0, 1) := by decide +kernel
theorem d_CF_behind_1 : decode Y_CF_behind.2.1 1 = .ok (.iload_n 1, 1) := by decide +kernel
theorem d_CF_behind_2 : decode Y_CF_behind.2.1 2 = .ok (.invokestatic 122, 3) := by decide +kernel
theorem d_CF_behind_5 : decode Y_CF_behind.2.1 5 = .ok (.invokevirtual 126, 3) := by decide +kernel
theorem d_CF_behind_8 : decode Y_CF_behind.2.1 8 = .ok (.iload_n 1, 1) := by decide +kernel
theorem d_CF_behind_9 : decode Y_CF_behind.2.1 9 = .ok (.invokestatic 130, 3) := by decide +kernel
theorem d_CF_behind_12 : decode Y_CF_behind.2.1 12 = .ok (.invokevirtual 133, 3) := by decide +kernel
theorem d_CF_behind_15 : decode Y_CF_behind.2.1 15 = .ok (.ireturn, 1) := by decide +kernel
theorem d_CF_ruleOf_0 : decode Y_CF_ruleOf.2.1 0 = .ok (.iload_n 0, 1) := by decide +kernel
theorem d_CF_ruleOf_1 : decode Y_CF_ruleOf.2.1 1 = .ok (.bipush 13, 2) := by decide +kernel
theorem d_CF_ruleOf_3 : decode Y_CF_ruleOf.2.1 3 = .ok (.idiv, 1) := by decide +kernel
theorem d_CF_ruleOf_4 : decode Y_CF_ruleOf.2.1 4 = .ok (.iconst 4, 1) := by decide +kernel
theorem d_CF_ruleOf_5 : decode Y_CF_ruleOf.2.1 5 = .ok (.idiv, 1) := by decide +kernel
theorem d_CF_ruleOf_6 : decode Y_CF_ruleOf.2.1 6 = .ok (.iconst 1, 1) := by decide +kernel
theorem d_CF_ruleOf_7 : decode Y_CF_ruleOf.2.1 7 = .ok (.isub, 1) := by decide +kernel
theorem d_CF_ruleOf_8 : decode Y_CF_ruleOf.2.1 8 = .ok (.ireturn, 1) := by decide +kernel
theorem d_CF_ruleAt_0 : decode Y_CF_ruleAt.2.1 0 = .ok (.iload_n 1, 1) := by decide +kernel
theorem d_CF_ruleAt_1 : decode Y_CF_ruleAt.2.1 1 = .ok (.ifCond .ge 10, 3) := by decide +kernel
theorem d_CF_ruleAt_4 : decode Y_CF_ruleAt.2.1 4 = .ok (.aload_n 0, 1) := by decide +kernel
theorem d_CF_ruleAt_5 : decode Y_CF_ruleAt.2.1 5 = .ok (.getfield 14, 3) := by decide +kernel
theorem d_CF_ruleAt_8 : decode Y_CF_ruleAt.2.1 8 = .ok (.goto 14, 3) := by decide +kernel
theorem d_CF_ruleAt_11 : decode Y_CF_ruleAt.2.1 11 = .ok (.aload_n 0, 1) := by decide +kernel
theorem d_CF_ruleAt_12 : decode Y_CF_ruleAt.2.1 12 = .ok (.getfield 23, 3) := by decide +kernel
theorem d_CF_ruleAt_15 : decode Y_CF_ruleAt.2.1 15 = .ok (.iload_n 1, 1) := by decide +kernel
theorem d_CF_ruleAt_16 : decode Y_CF_ruleAt.2.1 16 = .ok (.invokevirtual 87, 3) := by decide +kernel
theorem d_CF_ruleAt_19 : decode Y_CF_ruleAt.2.1 19 = .ok (.checkcast 9, 3) := by decide +kernel
theorem d_CF_ruleAt_22 : decode Y_CF_ruleAt.2.1 22 = .ok (.areturn, 1) := by decide +kernel
theorem d_Al_get_0 : decode Y_Al_get.2.1 0 = .ok (.iload_n 1, 1) := by decide +kernel
theorem d_Al_get_1 : decode Y_Al_get.2.1 1 = .ok (.aload_n 0, 1) := by decide +kernel
theorem d_Al_get_2 : decode Y_Al_get.2.1 2 = .ok (.getfield 48, 3) := by decide +kernel
theorem d_Al_get_5 : decode Y_Al_get.2.1 5 = .ok (.invokestatic 118, 3) := by decide +kernel
theorem d_Al_get_8 : decode Y_Al_get.2.1 8 = .ok (.pop, 1) := by decide +kernel
theorem d_Al_get_9 : decode Y_Al_get.2.1 9 = .ok (.aload_n 0, 1) := by decide +kernel
theorem d_Al_get_10 : decode Y_Al_get.2.1 10 = .ok (.iload_n 1, 1) := by decide +kernel
theorem d_Al_get_11 : decode Y_Al_get.2.1 11 = .ok (.invokevirtual 123, 3) := by decide +kernel
theorem d_Al_get_14 : decode Y_Al_get.2.1 14 = .ok (.areturn, 1) := by decide +kernel
theorem d_Os_checkIndex_0 : decode Y_Os_checkIndex.2.1 0 = .ok (.iload_n 0, 1) := by decide +kernel
theorem d_Os_checkIndex_1 : decode Y_Os_checkIndex.2.1 1 = .ok (.iload_n 1, 1) := by decide +kernel
theorem d_Os_checkIndex_2 : decode Y_Os_checkIndex.2.1 2 = .ok (.aconst_null, 1) := by decide +kernel
theorem d_Os_checkIndex_3 : decode Y_Os_checkIndex.2.1 3 = .ok (.invokestatic 105, 3) := by decide +kernel
theorem d_Os_checkIndex_6 : decode Y_Os_checkIndex.2.1 6 = .ok (.ireturn, 1) := by decide +kernel
theorem d_Pr_checkIndex_0 : decode Y_Pr_checkIndex.2.1 0 = .ok (.iload_n 0, 1) := by decide +kernel
theorem d_Pr_checkIndex_1 : decode Y_Pr_checkIndex.2.1 1 = .ok (.ifCond .lt 8, 3) := by decide +kernel
theorem d_Pr_checkIndex_4 : decode Y_Pr_checkIndex.2.1 4 = .ok (.iload_n 0, 1) := by decide +kernel
theorem d_Pr_checkIndex_5 : decode Y_Pr_checkIndex.2.1 5 = .ok (.iload_n 1, 1) := by decide +kernel
theorem d_Pr_checkIndex_6 : decode Y_Pr_checkIndex.2.1 6 = .ok (.if_icmp .lt 10, 3) := by decide +kernel
theorem d_Pr_checkIndex_9 : decode Y_Pr_checkIndex.2.1 9 = .ok (.aload_n 2, 1) := by decide +kernel
theorem d_Pr_checkIndex_10 : decode Y_Pr_checkIndex.2.1 10 = .ok (.iload_n 0, 1) := by decide +kernel
theorem d_Pr_checkIndex_11 : decode Y_Pr_checkIndex.2.1 11 = .ok (.iload_n 1, 1) := by decide +kernel
theorem d_Pr_checkIndex_12 : decode Y_Pr_checkIndex.2.1 12 = .ok (.invokestatic 95, 3) := by decide +kernel
theorem d_Pr_checkIndex_15 : decode Y_Pr_checkIndex.2.1 15 = .ok (.athrow, 1) := by decide +kernel
theorem d_Pr_checkIndex_16 : decode Y_Pr_checkIndex.2.1 16 = .ok (.iload_n 0, 1) := by decide +kernel
theorem d_Pr_checkIndex_17 : decode Y_Pr_checkIndex.2.1 17 = .ok (.ireturn, 1) := by decide +kernel
theorem d_Al_elementData_0 : decode Y_Al_elementData.2.1 0 = .ok (.aload_n 0, 1) := by decide +kernel
theorem d_Al_elementData_1 : decode Y_Al_elementData.2.1 1 = .ok (.getfield 9, 3) := by decide +kernel
theorem d_Al_elementData_4 : decode Y_Al_elementData.2.1 4 = .ok (.iload_n 1, 1) := by decide +kernel
theorem d_Al_elementData_5 : decode Y_Al_elementData.2.1 5 = .ok (.aaload, 1) := by decide +kernel
theorem d_Al_elementData_6 : decode Y_Al_elementData.2.1 6 = .ok (.areturn, 1) := by decide +kernel
theorem d_CF_dotOf_0 : decode Y_CF_dotOf.2.1 0 = .ok (.iload_n 0, 1) := by decide +kernel
theorem d_CF_dotOf_1 : decode Y_CF_dotOf.2.1 1 = .ok (.bipush 13, 2) := by decide +kernel
theorem d_CF_dotOf_3 : decode Y_CF_dotOf.2.1 3 = .ok (.idiv, 1) := by decide +kernel
theorem d_CF_dotOf_4 : decode Y_CF_dotOf.2.1 4 = .ok (.iconst 4, 1) := by decide +kernel
theorem d_CF_dotOf_5 : decode Y_CF_dotOf.2.1 5 = .ok (.irem, 1) := by decide +kernel
theorem d_CF_dotOf_6 : decode Y_CF_dotOf.2.1 6 = .ok (.ireturn, 1) := by decide +kernel
theorem d_Ru_behind_0 : decode Y_Ru_behind.2.1 0 = .ok (.iload_n 1, 1) := by decide +kernel
theorem d_Ru_behind_1 : decode Y_Ru_behind.2.1 1 = .ok (.aload_n 0, 1) := by decide +kernel
theorem d_Ru_behind_2 : decode Y_Ru_behind.2.1 2 = .ok (.getfield 18, 3) := by decide +kernel
theorem d_Ru_behind_5 : decode Y_Ru_behind.2.1 5 = .ok (.arraylength, 1) := by decide +kernel
theorem d_Ru_behind_6 : decode Y_Ru_behind.2.1 6 = .ok (.if_icmp .ge 12, 3) := by decide +kernel
theorem d_Ru_behind_9 : decode Y_Ru_behind.2.1 9 = .ok (.aload_n 0, 1) := by decide +kernel
theorem d_Ru_behind_10 : decode Y_Ru_behind.2.1 10 = .ok (.getfield 18, 3) := by decide +kernel
theorem d_Ru_behind_13 : decode Y_Ru_behind.2.1 13 = .ok (.iload_n 1, 1) := by decide +kernel
theorem d_Ru_behind_14 : decode Y_Ru_behind.2.1 14 = .ok (.iaload, 1) := by decide +kernel
theorem d_Ru_behind_15 : decode Y_Ru_behind.2.1 15 = .ok (.goto 4, 3) := by decide +kernel
theorem d_Ru_behind_18 : decode Y_Ru_behind.2.1 18 = .ok (.iconst (-1), 1) := by decide +kernel
theorem d_Ru_behind_19 : decode Y_Ru_behind.2.1 19 = .ok (.ireturn, 1) := by decide +kernel
theorem d_CF_isNonterminal_0 : decode Y_CF_isNonterminal.2.1 0 = .ok (.iload_n 0, 1) := by decide +kernel
theorem d_CF_isNonterminal_1 : decode Y_CF_isNonterminal.2.1 1 = .ok (.ifCond .lt 12, 3) := by decide +kernel
theorem d_CF_isNonterminal_4 : decode Y_CF_isNonterminal.2.1 4 = .ok (.iload_n 0, 1) := by decide +kernel
theorem d_CF_isNonterminal_5 : decode Y_CF_isNonterminal.2.1 5 = .ok (.iconst 5, 1) := by decide +kernel
theorem d_CF_isNonterminal_6 : decode Y_CF_isNonterminal.2.1 6 = .ok (.if_icmp .ge 7, 3) := by decide +kernel
theorem d_CF_isNonterminal_9 : decode Y_CF_isNonterminal.2.1 9 = .ok (.iconst 1, 1) := by decide +kernel
theorem d_CF_isNonterminal_10 : decode Y_CF_isNonterminal.2.1 10 = .ok (.goto 4, 3) := by decide +kernel
theorem d_CF_isNonterminal_13 : decode Y_CF_isNonterminal.2.1 13 = .ok (.iconst 0, 1) := by decide +kernel
theorem d_CF_isNonterminal_14 : decode Y_CF_isNonterminal.2.1 14 = .ok (.ireturn, 1) := by decide +kernel
theorem d_CF_predict_0 : decode Y_CF_predict.2.1 0 = .ok (.iconst 0, 1) := by decide +kernel
theorem d_CF_predict_1 : decode Y_CF_predict.2.1 1 = .ok (.istore 4, 2) := by decide +kernel
theorem d_CF_predict_3 : decode Y_CF_predict.2.1 3 = .ok (.iload 4, 2) := by decide +kernel
theorem d_CF_predict_5 : decode Y_CF_predict.2.1 5 = .ok (.aload_n 0, 1) := by decide +kernel
theorem d_CF_predict_6 : decode Y_CF_predict.2.1 6 = .ok (.getfield 23, 3) := by decide +kernel
theorem d_CF_predict_9 : decode Y_CF_predict.2.1 9 = .ok (.invokevirtual 105, 3) := by decide +kernel
theorem d_CF_predict_12 : decode Y_CF_predict.2.1 12 = .ok (.if_icmp .ge 39, 3) := by decide +kernel
theorem d_CF_predict_15 : decode Y_CF_predict.2.1 15 = .ok (.aload_n 0, 1) := by decide +kernel
theorem d_CF_predict_16 : decode Y_CF_predict.2.1 16 = .ok (.getfield 23, 3) := by decide +kernel
theorem d_CF_predict_19 : decode Y_CF_predict.2.1 19 = .ok (.iload 4, 2) := by decide +kernel
theorem d_CF_predict_21 : decode Y_CF_predict.2.1 21 = .ok (.invokevirtual 87, 3) := by decide +kernel
theorem d_CF_predict_24 : decode Y_CF_predict.2.1 24 = .ok (.checkcast 9, 3) := by decide +kernel
theorem d_CF_predict_27 : decode Y_CF_predict.2.1 27 = .ok (.getfield 144, 3) := by decide +kernel
theorem d_CF_predict_30 : decode Y_CF_predict.2.1 30 = .ok (.iload_n 2, 1) := by decide +kernel
theorem d_CF_predict_31 : decode Y_CF_predict.2.1 31 = .ok (.if_icmp .ne 14, 3) := by decide +kernel
theorem d_CF_predict_34 : decode Y_CF_predict.2.1 34 = .ok (.aload_n 1, 1) := by decide +kernel
theorem d_CF_predict_35 : decode Y_CF_predict.2.1 35 = .ok (.iload 4, 2) := by decide +kernel
theorem d_CF_predict_37 : decode Y_CF_predict.2.1 37 = .ok (.iconst 0, 1) := by decide +kernel
theorem d_CF_predict_38 : decode Y_CF_predict.2.1 38 = .ok (.iload_n 3, 1) := by decide +kernel
theorem d_CF_predict_39 : decode Y_CF_predict.2.1 39 = .ok (.invokestatic 77, 3) := by decide +kernel
theorem d_CF_predict_42 : decode Y_CF_predict.2.1 42 = .ok (.invokevirtual 81, 3) := by decide +kernel
theorem d_CF_predict_45 : decode Y_CF_predict.2.1 45 = .ok (.iinc 4 1, 3) := by decide +kernel
theorem d_CF_predict_48 : decode Y_CF_predict.2.1 48 = .ok (.goto (-45), 3) := by decide +kernel
theorem d_CF_predict_51 : decode Y_CF_predict.2.1 51 = .ok (.return_, 1) := by decide +kernel
theorem d_Al_size_0 : decode Y_Al_size.2.1 0 = .ok (.aload_n 0, 1) := by decide +kernel
theorem d_Al_size_1 : decode Y_Al_size.2.1 1 = .ok (.getfield 48, 3) := by decide +kernel
theorem d_Al_size_4 : decode Y_Al_size.2.1 4 = .ok (.ireturn, 1) := by decide +kernel
theorem d_CF_originOf_0 : decode Y_CF_originOf.2.1 0 = .ok (.iload_n 0, 1) := by decide +kernel
theorem d_CF_originOf_1 : decode Y_CF_originOf.2.1 1 = .ok (.bipush 13, 2) := by decide +kernel
theorem d_CF_originOf_3 : decode Y_CF_originOf.2.1 3 = .ok (.irem, 1) := by decide +kernel
theorem d_CF_originOf_4 : decode Y_CF_originOf.2.1 4 = .ok (.ireturn, 1) := by decide +kernel
theorem d_CF_complete_0 : decode Y_CF_complete.2.1 0 = .ok (.iload 4, 2) := by decide +kernel
theorem d_CF_complete_2 : decode Y_CF_complete.2.1 2 = .ok (.iload_n 2, 1) := by decide +kernel
theorem d_CF_complete_3 : decode Y_CF_complete.2.1 3 = .ok (.if_icmp .ne 23, 3) := by decide +kernel
theorem d_CF_complete_6 : decode Y_CF_complete.2.1 6 = .ok (.aload_n 1, 1) := by decide +kernel
theorem d_CF_complete_7 : decode Y_CF_complete.2.1 7 = .ok (.dup, 1) := by decide +kernel
theorem d_CF_complete_8 : decode Y_CF_complete.2.1 8 = .ok (.getfield 147, 3) := by decide +kernel
theorem d_CF_complete_11 : decode Y_CF_complete.2.1 11 = .ok (.iconst 1, 1) := by decide +kernel
theorem d_CF_complete_12 : decode Y_CF_complete.2.1 12 = .ok (.iload_n 3, 1) := by decide +kernel
theorem d_CF_complete_13 : decode Y_CF_complete.2.1 13 = .ok (.ishl, 1) := by decide +kernel
theorem d_CF_complete_14 : decode Y_CF_complete.2.1 14 = .ok (.ior, 1) := by decide +kernel
theorem d_CF_complete_15 : decode Y_CF_complete.2.1 15 = .ok (.putfield 147, 3) := by decide +kernel
theorem d_CF_complete_18 : decode Y_CF_complete.2.1 18 = .ok (.aload_n 0, 1) := by decide +kernel
theorem d_CF_complete_19 : decode Y_CF_complete.2.1 19 = .ok (.aload_n 1, 1) := by decide +kernel
theorem d_CF_complete_20 : decode Y_CF_complete.2.1 20 = .ok (.aload_n 1, 1) := by decide +kernel
theorem d_CF_complete_21 : decode Y_CF_complete.2.1 21 = .ok (.iload_n 3, 1) := by decide +kernel
theorem d_CF_complete_22 : decode Y_CF_complete.2.1 22 = .ok (.invokevirtual 150, 3) := by decide +kernel
theorem d_CF_complete_25 : decode Y_CF_complete.2.1 25 = .ok (.return_, 1) := by decide +kernel
theorem d_CF_complete_26 : decode Y_CF_complete.2.1 26 = .ok (.aload_n 0, 1) := by decide +kernel
theorem d_CF_complete_27 : decode Y_CF_complete.2.1 27 = .ok (.getfield 29, 3) := by decide +kernel
theorem d_CF_complete_30 : decode Y_CF_complete.2.1 30 = .ok (.iload 4, 2) := by decide +kernel
theorem d_CF_complete_32 : decode Y_CF_complete.2.1 32 = .ok (.aaload, 1) := by decide +kernel
theorem d_CF_complete_33 : decode Y_CF_complete.2.1 33 = .ok (.getfield 154, 3) := by decide +kernel
theorem d_CF_complete_36 : decode Y_CF_complete.2.1 36 = .ok (.iload_n 3, 1) := by decide +kernel
theorem d_CF_complete_37 : decode Y_CF_complete.2.1 37 = .ok (.iaload, 1) := by decide +kernel
theorem d_CF_complete_38 : decode Y_CF_complete.2.1 38 = .ok (.istore 5, 2) := by decide +kernel
theorem d_CF_complete_40 : decode Y_CF_complete.2.1 40 = .ok (.iload 5, 2) := by decide +kernel
theorem d_CF_complete_42 : decode Y_CF_complete.2.1 42 = .ok (.ifCond .lt 12, 3) := by decide +kernel
theorem d_CF_complete_45 : decode Y_CF_complete.2.1 45 = .ok (.aload_n 1, 1) := by decide +kernel
theorem d_CF_complete_46 : decode Y_CF_complete.2.1 46 = .ok (.iload 5, 2) := by decide +kernel
theorem d_CF_complete_48 : decode Y_CF_complete.2.1 48 = .ok (.invokevirtual 81, 3) := by decide +kernel
theorem d_CF_complete_51 : decode Y_CF_complete.2.1 51 = .ok (.goto 16, 3) := by decide +kernel
theorem d_CF_complete_54 : decode Y_CF_complete.2.1 54 = .ok (.aload_n 0, 1) := by decide +kernel
theorem d_CF_complete_55 : decode Y_CF_complete.2.1 55 = .ok (.aload_n 1, 1) := by decide +kernel
theorem d_CF_complete_56 : decode Y_CF_complete.2.1 56 = .ok (.aload_n 0, 1) := by decide +kernel
theorem d_CF_complete_57 : decode Y_CF_complete.2.1 57 = .ok (.getfield 29, 3) := by decide +kernel
theorem d_CF_complete_60 : decode Y_CF_complete.2.1 60 = .ok (.iload 4, 2) := by decide +kernel
theorem d_CF_complete_62 : decode Y_CF_complete.2.1 62 = .ok (.aaload, 1) := by decide +kernel
theorem d_CF_complete_63 : decode Y_CF_complete.2.1 63 = .ok (.iload_n 3, 1) := by decide +kernel
theorem d_CF_complete_64 : decode Y_CF_complete.2.1 64 = .ok (.invokevirtual 150, 3) := by decide +kernel
theorem d_CF_complete_67 : decode Y_CF_complete.2.1 67 = .ok (.return_, 1) := by decide +kernel
theorem d_CF_advanceAll_0 : decode Y_CF_advanceAll.2.1 0 = .ok (.aload_n 2, 1) := by decide +kernel
theorem d_CF_advanceAll_1 : decode Y_CF_advanceAll.2.1 1 = .ok (.getfield 136, 3) := by decide +kernel
theorem d_CF_advanceAll_4 : decode Y_CF_advanceAll.2.1 4 = .ok (.istore 4, 2) := by decide +kernel
theorem d_CF_advanceAll_6 : decode Y_CF_advanceAll.2.1 6 = .ok (.iconst 0, 1) := by decide +kernel
theorem d_CF_advanceAll_7 : decode Y_CF_advanceAll.2.1 7 = .ok (.istore 5, 2) := by decide +kernel
theorem d_CF_advanceAll_9 : decode Y_CF_advanceAll.2.1 9 = .ok (.iload 5, 2) := by decide +kernel
theorem d_CF_advanceAll_11 : decode Y_CF_advanceAll.2.1 11 = .ok (.iload 4, 2) := by decide +kernel
theorem d_CF_advanceAll_13 : decode Y_CF_advanceAll.2.1 13 = .ok (.if_icmp .ge 37, 3) := by decide +kernel
theorem d_CF_advanceAll_16 : decode Y_CF_advanceAll.2.1 16 = .ok (.aload_n 2, 1) := by decide +kernel
theorem d_CF_advanceAll_17 : decode Y_CF_advanceAll.2.1 17 = .ok (.getfield 139, 3) := by decide +kernel
theorem d_CF_advanceAll_20 : decode Y_CF_advanceAll.2.1 20 = .ok (.iload 5, 2) := by decide +kernel
theorem d_CF_advanceAll_22 : decode Y_CF_advanceAll.2.1 22 = .ok (.saload, 1) := by decide +kernel
theorem d_CF_advanceAll_23 : decode Y_CF_advanceAll.2.1 23 = .ok (.istore 6, 2) := by decide +kernel
theorem d_CF_advanceAll_25 : decode Y_CF_advanceAll.2.1 25 = .ok (.aload_n 0, 1) := by decide +kernel
theorem d_CF_advanceAll_26 : decode Y_CF_advanceAll.2.1 26 = .ok (.iload 6, 2) := by decide +kernel
theorem d_CF_advanceAll_28 : decode Y_CF_advanceAll.2.1 28 = .ok (.invokevirtual 143, 3) := by decide +kernel
theorem d_CF_advanceAll_31 : decode Y_CF_advanceAll.2.1 31 = .ok (.iload_n 3, 1) := by decide +kernel
theorem d_CF_advanceAll_32 : decode Y_CF_advanceAll.2.1 32 = .ok (.if_icmp .ne 12, 3) := by decide +kernel
theorem d_CF_advanceAll_35 : decode Y_CF_advanceAll.2.1 35 = .ok (.aload_n 1, 1) := by decide +kernel
theorem d_CF_advanceAll_36 : decode Y_CF_advanceAll.2.1 36 = .ok (.iload 6, 2) := by decide +kernel
theorem d_CF_advanceAll_38 : decode Y_CF_advanceAll.2.1 38 = .ok (.bipush 13, 2) := by decide +kernel
theorem d_CF_advanceAll_40 : decode Y_CF_advanceAll.2.1 40 = .ok (.iadd, 1) := by decide +kernel
theorem d_CF_advanceAll_41 : decode Y_CF_advanceAll.2.1 41 = .ok (.invokevirtual 81, 3) := by decide +kernel
theorem d_CF_advanceAll_44 : decode Y_CF_advanceAll.2.1 44 = .ok (.iinc 5 1, 3) := by decide +kernel
theorem d_CF_advanceAll_47 : decode Y_CF_advanceAll.2.1 47 = .ok (.goto (-38), 3) := by decide +kernel
theorem d_CF_advanceAll_50 : decode Y_CF_advanceAll.2.1 50 = .ok (.return_, 1) := by decide +kernel
theorem d_CF_leapFor_0 : decode Y_CF_leapFor.2.1 0 = .ok (.iconst (-1), 1) := by decide +kernel
theorem d_CF_leapFor_1 : decode Y_CF_leapFor.2.1 1 = .ok (.istore 4, 2) := by decide +kernel
theorem d_CF_leapFor_3 : decode Y_CF_leapFor.2.1 3 = .ok (.iconst 0, 1) := by decide +kernel
theorem d_CF_leapFor_4 : decode Y_CF_leapFor.2.1 4 = .ok (.istore 5, 2) := by decide +kernel
theorem d_CF_leapFor_6 : decode Y_CF_leapFor.2.1 6 = .ok (.iload 5, 2) := by decide +kernel
theorem d_CF_leapFor_8 : decode Y_CF_leapFor.2.1 8 = .ok (.aload_n 1, 1) := by decide +kernel
theorem d_CF_leapFor_9 : decode Y_CF_leapFor.2.1 9 = .ok (.getfield 136, 3) := by decide +kernel
theorem d_CF_leapFor_12 : decode Y_CF_leapFor.2.1 12 = .ok (.if_icmp .ge 40, 3) := by decide +kernel
theorem d_CF_leapFor_15 : decode Y_CF_leapFor.2.1 15 = .ok (.aload_n 1, 1) := by decide +kernel
theorem d_CF_leapFor_16 : decode Y_CF_leapFor.2.1 16 = .ok (.getfield 139, 3) := by decide +kernel
theorem d_CF_leapFor_19 : decode Y_CF_leapFor.2.1 19 = .ok (.iload 5, 2) := by decide +kernel
theorem d_CF_leapFor_21 : decode Y_CF_leapFor.2.1 21 = .ok (.saload, 1) := by decide +kernel
theorem d_CF_leapFor_22 : decode Y_CF_leapFor.2.1 22 = .ok (.istore 6, 2) := by decide +kernel
theorem d_CF_leapFor_24 : decode Y_CF_leapFor.2.1 24 = .ok (.aload_n 0, 1) := by decide +kernel
theorem d_CF_leapFor_25 : decode Y_CF_leapFor.2.1 25 = .ok (.iload 6, 2) := by decide +kernel
theorem d_CF_leapFor_27 : decode Y_CF_leapFor.2.1 27 = .ok (.invokevirtual 143, 3) := by decide +kernel
theorem d_CF_leapFor_30 : decode Y_CF_leapFor.2.1 30 = .ok (.iload_n 3, 1) := by decide +kernel
theorem d_CF_leapFor_31 : decode Y_CF_leapFor.2.1 31 = .ok (.if_icmp .ne 15, 3) := by decide +kernel
theorem d_CF_leapFor_34 : decode Y_CF_leapFor.2.1 34 = .ok (.iload 4, 2) := by decide +kernel
theorem d_CF_leapFor_36 : decode Y_CF_leapFor.2.1 36 = .ok (.iconst (-1), 1) := by decide +kernel
theorem d_CF_leapFor_37 : decode Y_CF_leapFor.2.1 37 = .ok (.if_icmp .eq 5, 3) := by decide +kernel
theorem d_CF_leapFor_40 : decode Y_CF_leapFor.2.1 40 = .ok (.iconst (-1), 1) := by decide +kernel
theorem d_CF_leapFor_41 : decode Y_CF_leapFor.2.1 41 = .ok (.ireturn, 1) := by decide +kernel
theorem d_CF_leapFor_42 : decode Y_CF_leapFor.2.1 42 = .ok (.iload 6, 2) := by decide +kernel
theorem d_CF_leapFor_44 : decode Y_CF_leapFor.2.1 44 = .ok (.istore 4, 2) := by decide +kernel
theorem d_CF_leapFor_46 : decode Y_CF_leapFor.2.1 46 = .ok (.iinc 5 1, 3) := by decide +kernel
theorem d_CF_leapFor_49 : decode Y_CF_leapFor.2.1 49 = .ok (.goto (-43), 3) := by decide +kernel
theorem d_CF_leapFor_52 : decode Y_CF_leapFor.2.1 52 = .ok (.iload 4, 2) := by decide +kernel
theorem d_CF_leapFor_54 : decode Y_CF_leapFor.2.1 54 = .ok (.iconst (-1), 1) := by decide +kernel
theorem d_CF_leapFor_55 : decode Y_CF_leapFor.2.1 55 = .ok (.if_icmp .eq 26, 3) := by decide +kernel
theorem d_CF_leapFor_58 : decode Y_CF_leapFor.2.1 58 = .ok (.aload_n 0, 1) := by decide +kernel
theorem d_CF_leapFor_59 : decode Y_CF_leapFor.2.1 59 = .ok (.iload 4, 2) := by decide +kernel
theorem d_CF_leapFor_61 : decode Y_CF_leapFor.2.1 61 = .ok (.invokestatic 122, 3) := by decide +kernel
theorem d_CF_leapFor_64 : decode Y_CF_leapFor.2.1 64 = .ok (.invokevirtual 126, 3) := by decide +kernel
theorem d_CF_leapFor_67 : decode Y_CF_leapFor.2.1 67 = .ok (.iload 4, 2) := by decide +kernel
theorem d_CF_leapFor_69 : decode Y_CF_leapFor.2.1 69 = .ok (.invokestatic 130, 3) := by decide +kernel
theorem d_CF_leapFor_72 : decode Y_CF_leapFor.2.1 72 = .ok (.iconst 1, 1) := by decide +kernel
theorem d_CF_leapFor_73 : decode Y_CF_leapFor.2.1 73 = .ok (.iadd, 1) := by decide +kernel
theorem d_CF_leapFor_74 : decode Y_CF_leapFor.2.1 74 = .ok (.invokevirtual 133, 3) := by decide +kernel
theorem d_CF_leapFor_77 : decode Y_CF_leapFor.2.1 77 = .ok (.iconst (-1), 1) := by decide +kernel
theorem d_CF_leapFor_78 : decode Y_CF_leapFor.2.1 78 = .ok (.if_icmp .eq 5, 3) := by decide +kernel
theorem d_CF_leapFor_81 : decode Y_CF_leapFor.2.1 81 = .ok (.iconst (-1), 1) := by decide +kernel
theorem d_CF_leapFor_82 : decode Y_CF_leapFor.2.1 82 = .ok (.ireturn, 1) := by decide +kernel
theorem d_CF_leapFor_83 : decode Y_CF_leapFor.2.1 83 = .ok (.iload 4, 2) := by decide +kernel
theorem d_CF_leapFor_85 : decode Y_CF_leapFor.2.1 85 = .ok (.invokestatic 161, 3) := by decide +kernel
theorem d_CF_leapFor_88 : decode Y_CF_leapFor.2.1 88 = .ok (.istore 5, 2) := by decide +kernel
theorem d_CF_leapFor_90 : decode Y_CF_leapFor.2.1 90 = .ok (.iload 4, 2) := by decide +kernel
theorem d_CF_leapFor_92 : decode Y_CF_leapFor.2.1 92 = .ok (.invokestatic 122, 3) := by decide +kernel
theorem d_CF_leapFor_95 : decode Y_CF_leapFor.2.1 95 = .ok (.istore 6, 2) := by decide +kernel
theorem d_CF_leapFor_97 : decode Y_CF_leapFor.2.1 97 = .ok (.iload 5, 2) := by decide +kernel
theorem d_CF_leapFor_99 : decode Y_CF_leapFor.2.1 99 = .ok (.iload_n 2, 1) := by decide +kernel
theorem d_CF_leapFor_100 : decode Y_CF_leapFor.2.1 100 = .ok (.if_icmp .ge 37, 3) := by decide +kernel
theorem d_CF_leapFor_103 : decode Y_CF_leapFor.2.1 103 = .ok (.iload 6, 2) := by decide +kernel
theorem d_CF_leapFor_105 : decode Y_CF_leapFor.2.1 105 = .ok (.ifCond .lt 32, 3) := by decide +kernel
theorem d_CF_leapFor_108 : decode Y_CF_leapFor.2.1 108 = .ok (.aload_n 0, 1) := by decide +kernel
theorem d_CF_leapFor_109 : decode Y_CF_leapFor.2.1 109 = .ok (.getfield 29, 3) := by decide +kernel
theorem d_CF_leapFor_112 : decode Y_CF_leapFor.2.1 112 = .ok (.iload 5, 2) := by decide +kernel
theorem d_CF_leapFor_114 : decode Y_CF_leapFor.2.1 114 = .ok (.aaload, 1) := by decide +kernel
theorem d_CF_leapFor_115 : decode Y_CF_leapFor.2.1 115 = .ok (.getfield 154, 3) := by decide +kernel
theorem d_CF_leapFor_118 : decode Y_CF_leapFor.2.1 118 = .ok (.aload_n 0, 1) := by decide +kernel
theorem d_CF_leapFor_119 : decode Y_CF_leapFor.2.1 119 = .ok (.getfield 23, 3) := by decide +kernel
theorem d_CF_leapFor_122 : decode Y_CF_leapFor.2.1 122 = .ok (.iload 6, 2) := by decide +kernel
theorem d_CF_leapFor_124 : decode Y_CF_leapFor.2.1 124 = .ok (.invokevirtual 87, 3) := by decide +kernel
theorem d_CF_leapFor_127 : decode Y_CF_leapFor.2.1 127 = .ok (.checkcast 9, 3) := by decide +kernel
theorem d_CF_leapFor_130 : decode Y_CF_leapFor.2.1 130 = .ok (.getfield 144, 3) := by decide +kernel
theorem d_CF_leapFor_133 : decode Y_CF_leapFor.2.1 133 = .ok (.iaload, 1) := by decide +kernel
theorem d_CF_leapFor_134 : decode Y_CF_leapFor.2.1 134 = .ok (.goto 4, 3) := by decide +kernel
theorem d_CF_leapFor_137 : decode Y_CF_leapFor.2.1 137 = .ok (.iconst (-1), 1) := by decide +kernel
theorem d_CF_leapFor_138 : decode Y_CF_leapFor.2.1 138 = .ok (.istore 7, 2) := by decide +kernel
theorem d_CF_leapFor_140 : decode Y_CF_leapFor.2.1 140 = .ok (.iload 7, 2) := by decide +kernel
theorem d_CF_leapFor_142 : decode Y_CF_leapFor.2.1 142 = .ok (.iconst (-1), 1) := by decide +kernel
theorem d_CF_leapFor_143 : decode Y_CF_leapFor.2.1 143 = .ok (.if_icmp .eq 8, 3) := by decide +kernel
theorem d_CF_leapFor_146 : decode Y_CF_leapFor.2.1 146 = .ok (.iload 7, 2) := by decide +kernel
theorem d_CF_leapFor_148 : decode Y_CF_leapFor.2.1 148 = .ok (.goto 8, 3) := by decide +kernel
theorem d_CF_leapFor_151 : decode Y_CF_leapFor.2.1 151 = .ok (.iload 4, 2) := by decide +kernel
theorem d_CF_leapFor_153 : decode Y_CF_leapFor.2.1 153 = .ok (.bipush 13, 2) := by decide +kernel
theorem d_CF_leapFor_155 : decode Y_CF_leapFor.2.1 155 = .ok (.iadd, 1) := by decide +kernel
theorem d_CF_leapFor_156 : decode Y_CF_leapFor.2.1 156 = .ok (.ireturn, 1) := by decide +kernel
theorem d_CF_fed_0 : decode Y_CF_fed.2.1 0 = .ok (.aload_n 0, 1) := by decide +kernel
theorem d_CF_fed_1 : decode Y_CF_fed.2.1 1 = .ok (.getfield 109, 3) := by decide +kernel
theorem d_CF_fed_4 : decode Y_CF_fed.2.1 4 = .ok (.ireturn, 1) := by decide +kernel
theorem d_CF_accepts_0 : decode Y_CF_accepts.2.1 0 = .ok (.aload_n 0, 1) := by decide +kernel
theorem d_CF_accepts_1 : decode Y_CF_accepts.2.1 1 = .ok (.getfield 29, 3) := by decide +kernel
theorem d_CF_accepts_4 : decode Y_CF_accepts.2.1 4 = .ok (.aload_n 0, 1) := by decide +kernel
theorem d_CF_accepts_5 : decode Y_CF_accepts.2.1 5 = .ok (.getfield 109, 3) := by decide +kernel
theorem d_CF_accepts_8 : decode Y_CF_accepts.2.1 8 = .ok (.aaload, 1) := by decide +kernel
theorem d_CF_accepts_9 : decode Y_CF_accepts.2.1 9 = .ok (.iconst (-1), 1) := by decide +kernel
theorem d_CF_accepts_10 : decode Y_CF_accepts.2.1 10 = .ok (.iconst 1, 1) := by decide +kernel
theorem d_CF_accepts_11 : decode Y_CF_accepts.2.1 11 = .ok (.iconst 0, 1) := by decide +kernel
theorem d_CF_accepts_12 : decode Y_CF_accepts.2.1 12 = .ok (.invokestatic 77, 3) := by decide +kernel
theorem d_CF_accepts_15 : decode Y_CF_accepts.2.1 15 = .ok (.invokevirtual 237, 3) := by decide +kernel
theorem d_CF_accepts_18 : decode Y_CF_accepts.2.1 18 = .ok (.ireturn, 1) := by decide +kernel
theorem d_CF_expected_0 : decode Y_CF_expected.2.1 0 = .ok (.aload_n 0, 1) := by decide +kernel
theorem d_CF_expected_1 : decode Y_CF_expected.2.1 1 = .ok (.getfield 29, 3) := by decide +kernel
theorem d_CF_expected_4 : decode Y_CF_expected.2.1 4 = .ok (.aload_n 0, 1) := by decide +kernel
theorem d_CF_expected_5 : decode Y_CF_expected.2.1 5 = .ok (.getfield 109, 3) := by decide +kernel
theorem d_CF_expected_8 : decode Y_CF_expected.2.1 8 = .ok (.aaload, 1) := by decide +kernel
theorem d_CF_expected_9 : decode Y_CF_expected.2.1 9 = .ok (.astore_n 1, 1) := by decide +kernel
theorem d_CF_expected_10 : decode Y_CF_expected.2.1 10 = .ok (.iconst 0, 1) := by decide +kernel
theorem d_CF_expected_11 : decode Y_CF_expected.2.1 11 = .ok (.istore_n 2, 1) := by decide +kernel
theorem d_CF_expected_12 : decode Y_CF_expected.2.1 12 = .ok (.iconst 0, 1) := by decide +kernel
theorem d_CF_expected_13 : decode Y_CF_expected.2.1 13 = .ok (.istore_n 3, 1) := by decide +kernel
theorem d_CF_expected_14 : decode Y_CF_expected.2.1 14 = .ok (.iload_n 3, 1) := by decide +kernel
theorem d_CF_expected_15 : decode Y_CF_expected.2.1 15 = .ok (.aload_n 1, 1) := by decide +kernel
theorem d_CF_expected_16 : decode Y_CF_expected.2.1 16 = .ok (.getfield 136, 3) := by decide +kernel
theorem d_CF_expected_19 : decode Y_CF_expected.2.1 19 = .ok (.if_icmp .ge 39, 3) := by decide +kernel
theorem d_CF_expected_22 : decode Y_CF_expected.2.1 22 = .ok (.aload_n 0, 1) := by decide +kernel
theorem d_CF_expected_23 : decode Y_CF_expected.2.1 23 = .ok (.aload_n 1, 1) := by decide +kernel
theorem d_CF_expected_24 : decode Y_CF_expected.2.1 24 = .ok (.getfield 139, 3) := by decide +kernel
theorem d_CF_expected_27 : decode Y_CF_expected.2.1 27 = .ok (.iload_n 3, 1) := by decide +kernel
theorem d_CF_expected_28 : decode Y_CF_expected.2.1 28 = .ok (.saload, 1) := by decide +kernel
theorem d_CF_expected_29 : decode Y_CF_expected.2.1 29 = .ok (.invokevirtual 143, 3) := by decide +kernel
theorem d_CF_expected_32 : decode Y_CF_expected.2.1 32 = .ok (.istore 4, 2) := by decide +kernel
theorem d_CF_expected_34 : decode Y_CF_expected.2.1 34 = .ok (.iload 4, 2) := by decide +kernel
theorem d_CF_expected_36 : decode Y_CF_expected.2.1 36 = .ok (.invokestatic 102, 3) := by decide +kernel
theorem d_CF_expected_39 : decode Y_CF_expected.2.1 39 = .ok (.ifCond .eq 13, 3) := by decide +kernel
theorem d_CF_expected_42 : decode Y_CF_expected.2.1 42 = .ok (.iload_n 2, 1) := by decide +kernel
theorem d_CF_expected_43 : decode Y_CF_expected.2.1 43 = .ok (.iconst 1, 1) := by decide +kernel
theorem d_CF_expected_44 : decode Y_CF_expected.2.1 44 = .ok (.iload 4, 2) := by decide +kernel
theorem d_CF_expected_46 : decode Y_CF_expected.2.1 46 = .ok (.bipush 8, 2) := by decide +kernel
theorem d_CF_expected_48 : decode Y_CF_expected.2.1 48 = .ok (.isub, 1) := by decide +kernel
theorem d_CF_expected_49 : decode Y_CF_expected.2.1 49 = .ok (.ishl, 1) := by decide +kernel
theorem d_CF_expected_50 : decode Y_CF_expected.2.1 50 = .ok (.ior, 1) := by decide +kernel
theorem d_CF_expected_51 : decode Y_CF_expected.2.1 51 = .ok (.istore_n 2, 1) := by decide +kernel
theorem d_CF_expected_52 : decode Y_CF_expected.2.1 52 = .ok (.iinc 3 1, 3) := by decide +kernel
theorem d_CF_expected_55 : decode Y_CF_expected.2.1 55 = .ok (.goto (-41), 3) := by decide +kernel
theorem d_CF_expected_58 : decode Y_CF_expected.2.1 58 = .ok (.iload_n 2, 1) := by decide +kernel
theorem d_CF_expected_59 : decode Y_CF_expected.2.1 59 = .ok (.ireturn, 1) := by decide +kernel
theorem d_CF_isTerminal_0 : decode Y_CF_isTerminal.2.1 0 = .ok (.iload_n 0, 1) := by decide +kernel
theorem d_CF_isTerminal_1 : decode Y_CF_isTerminal.2.1 1 = .ok (.bipush 8, 2) := by decide +kernel
theorem d_CF_isTerminal_3 : decode Y_CF_isTerminal.2.1 3 = .ok (.if_icmp .lt 13, 3) := by decide +kernel
theorem d_CF_isTerminal_6 : decode Y_CF_isTerminal.2.1 6 = .ok (.iload_n 0, 1) := by decide +kernel
theorem d_CF_isTerminal_7 : decode Y_CF_isTerminal.2.1 7 = .ok (.bipush 12, 2) := by decide +kernel
theorem d_CF_isTerminal_9 : decode Y_CF_isTerminal.2.1 9 = .ok (.if_icmp .ge 7, 3) := by decide +kernel
theorem d_CF_isTerminal_12 : decode Y_CF_isTerminal.2.1 12 = .ok (.iconst 1, 1) := by decide +kernel
theorem d_CF_isTerminal_13 : decode Y_CF_isTerminal.2.1 13 = .ok (.goto 4, 3) := by decide +kernel
theorem d_CF_isTerminal_16 : decode Y_CF_isTerminal.2.1 16 = .ok (.iconst 0, 1) := by decide +kernel
theorem d_CF_isTerminal_17 : decode Y_CF_isTerminal.2.1 17 = .ok (.ireturn, 1) := by decide +kernel
theorem d_CF_nodes_0 : decode Y_CF_nodes.2.1 0 = .ok (.aload_n 0, 1) := by decide +kernel
theorem d_CF_nodes_1 : decode Y_CF_nodes.2.1 1 = .ok (.iconst 0, 1) := by decide +kernel
theorem d_CF_nodes_2 : decode Y_CF_nodes.2.1 2 = .ok (.iconst 0, 1) := by decide +kernel
theorem d_CF_nodes_3 : decode Y_CF_nodes.2.1 3 = .ok (.aload_n 0, 1) := by decide +kernel
theorem d_CF_nodes_4 : decode Y_CF_nodes.2.1 4 = .ok (.getfield 109, 3) := by decide +kernel
theorem d_CF_nodes_7 : decode Y_CF_nodes.2.1 7 = .ok (.invokevirtual 251, 3) := by decide +kernel
theorem d_CF_nodes_10 : decode Y_CF_nodes.2.1 10 = .ok (.ifCond .ne 5, 3) := by decide +kernel
theorem d_CF_nodes_13 : decode Y_CF_nodes.2.1 13 = .ok (.iconst 0, 1) := by decide +kernel
theorem d_CF_nodes_14 : decode Y_CF_nodes.2.1 14 = .ok (.ireturn, 1) := by decide +kernel
theorem d_CF_nodes_15 : decode Y_CF_nodes.2.1 15 = .ok (.iconst 0, 1) := by decide +kernel
theorem d_CF_nodes_16 : decode Y_CF_nodes.2.1 16 = .ok (.istore_n 1, 1) := by decide +kernel
theorem d_CF_nodes_17 : decode Y_CF_nodes.2.1 17 = .ok (.iload_n 1, 1) := by decide +kernel
theorem d_CF_nodes_18 : decode Y_CF_nodes.2.1 18 = .ok (.aload_n 0, 1) := by decide +kernel
theorem d_CF_nodes_19 : decode Y_CF_nodes.2.1 19 = .ok (.getfield 65, 3) := by decide +kernel
theorem d_CF_nodes_22 : decode Y_CF_nodes.2.1 22 = .ok (.arraylength, 1) := by decide +kernel
theorem d_CF_nodes_23 : decode Y_CF_nodes.2.1 23 = .ok (.if_icmp .ge 32, 3) := by decide +kernel
theorem d_CF_nodes_26 : decode Y_CF_nodes.2.1 26 = .ok (.iconst 0, 1) := by decide +kernel
theorem d_CF_nodes_27 : decode Y_CF_nodes.2.1 27 = .ok (.istore_n 2, 1) := by decide +kernel
theorem d_CF_nodes_28 : decode Y_CF_nodes.2.1 28 = .ok (.iload_n 2, 1) := by decide +kernel
theorem d_CF_nodes_29 : decode Y_CF_nodes.2.1 29 = .ok (.bipush 13, 2) := by decide +kernel
theorem d_CF_nodes_31 : decode Y_CF_nodes.2.1 31 = .ok (.if_icmp .ge 18, 3) := by decide +kernel
theorem d_CF_nodes_34 : decode Y_CF_nodes.2.1 34 = .ok (.aload_n 0, 1) := by decide +kernel
theorem d_CF_nodes_35 : decode Y_CF_nodes.2.1 35 = .ok (.getfield 65, 3) := by decide +kernel
theorem d_CF_nodes_38 : decode Y_CF_nodes.2.1 38 = .ok (.iload_n 1, 1) := by decide +kernel
theorem d_CF_nodes_39 : decode Y_CF_nodes.2.1 39 = .ok (.aaload, 1) := by decide +kernel
theorem d_CF_nodes_40 : decode Y_CF_nodes.2.1 40 = .ok (.iload_n 2, 1) := by decide +kernel
theorem d_CF_nodes_41 : decode Y_CF_nodes.2.1 41 = .ok (.iconst 0, 1) := by decide +kernel
theorem d_CF_nodes_42 : decode Y_CF_nodes.2.1 42 = .ok (.bastore, 1) := by decide +kernel
theorem d_CF_nodes_43 : decode Y_CF_nodes.2.1 43 = .ok (.iinc 2 1, 3) := by decide +kernel
theorem d_CF_nodes_46 : decode Y_CF_nodes.2.1 46 = .ok (.goto (-18), 3) := by decide +kernel
theorem d_CF_nodes_49 : decode Y_CF_nodes.2.1 49 = .ok (.iinc 1 1, 3) := by decide +kernel
theorem d_CF_nodes_52 : decode Y_CF_nodes.2.1 52 = .ok (.goto (-35), 3) := by decide +kernel
theorem d_CF_nodes_55 : decode Y_CF_nodes.2.1 55 = .ok (.aload_n 0, 1) := by decide +kernel
theorem d_CF_nodes_56 : decode Y_CF_nodes.2.1 56 = .ok (.getfield 65, 3) := by decide +kernel
theorem d_CF_nodes_59 : decode Y_CF_nodes.2.1 59 = .ok (.iconst 5, 1) := by decide +kernel
theorem d_CF_nodes_60 : decode Y_CF_nodes.2.1 60 = .ok (.aload_n 0, 1) := by decide +kernel
theorem d_CF_nodes_61 : decode Y_CF_nodes.2.1 61 = .ok (.getfield 109, 3) := by decide +kernel
theorem d_CF_nodes_64 : decode Y_CF_nodes.2.1 64 = .ok (.imul, 1) := by decide +kernel
theorem d_CF_nodes_65 : decode Y_CF_nodes.2.1 65 = .ok (.aaload, 1) := by decide +kernel
theorem d_CF_nodes_66 : decode Y_CF_nodes.2.1 66 = .ok (.iconst 0, 1) := by decide +kernel
theorem d_CF_nodes_67 : decode Y_CF_nodes.2.1 67 = .ok (.iconst 1, 1) := by decide +kernel
theorem d_CF_nodes_68 : decode Y_CF_nodes.2.1 68 = .ok (.bastore, 1) := by decide +kernel
theorem d_CF_nodes_69 : decode Y_CF_nodes.2.1 69 = .ok (.iconst 0, 1) := by decide +kernel
theorem d_CF_nodes_70 : decode Y_CF_nodes.2.1 70 = .ok (.istore_n 1, 1) := by decide +kernel
theorem d_CF_nodes_71 : decode Y_CF_nodes.2.1 71 = .ok (.aload_n 0, 1) := by decide +kernel
theorem d_CF_nodes_72 : decode Y_CF_nodes.2.1 72 = .ok (.getfield 109, 3) := by decide +kernel
theorem d_CF_nodes_75 : decode Y_CF_nodes.2.1 75 = .ok (.istore_n 2, 1) := by decide +kernel
theorem d_CF_nodes_76 : decode Y_CF_nodes.2.1 76 = .ok (.iload_n 2, 1) := by decide +kernel
theorem d_CF_nodes_77 : decode Y_CF_nodes.2.1 77 = .ok (.ifCond .lt 38, 3) := by decide +kernel
theorem d_CF_nodes_80 : decode Y_CF_nodes.2.1 80 = .ok (.iconst 0, 1) := by decide +kernel
theorem d_CF_nodes_81 : decode Y_CF_nodes.2.1 81 = .ok (.istore_n 3, 1) := by decide +kernel
theorem d_CF_nodes_82 : decode Y_CF_nodes.2.1 82 = .ok (.iload_n 3, 1) := by decide +kernel
theorem d_CF_nodes_83 : decode Y_CF_nodes.2.1 83 = .ok (.iload_n 2, 1) := by decide +kernel
theorem d_CF_nodes_84 : decode Y_CF_nodes.2.1 84 = .ok (.iadd, 1) := by decide +kernel
theorem d_CF_nodes_85 : decode Y_CF_nodes.2.1 85 = .ok (.aload_n 0, 1) := by decide +kernel
theorem d_CF_nodes_86 : decode Y_CF_nodes.2.1 86 = .ok (.getfield 109, 3) := by decide +kernel
theorem d_CF_nodes_89 : decode Y_CF_nodes.2.1 89 = .ok (.if_icmp .gt 20, 3) := by decide +kernel
theorem d_CF_nodes_92 : decode Y_CF_nodes.2.1 92 = .ok (.iload_n 1, 1) := by decide +kernel
theorem d_CF_nodes_93 : decode Y_CF_nodes.2.1 93 = .ok (.aload_n 0, 1) := by decide +kernel
theorem d_CF_nodes_94 : decode Y_CF_nodes.2.1 94 = .ok (.iload_n 3, 1) := by decide +kernel
theorem d_CF_nodes_95 : decode Y_CF_nodes.2.1 95 = .ok (.iload_n 3, 1) := by decide +kernel
theorem d_CF_nodes_96 : decode Y_CF_nodes.2.1 96 = .ok (.iload_n 2, 1) := by decide +kernel
theorem d_CF_nodes_97 : decode Y_CF_nodes.2.1 97 = .ok (.iadd, 1) := by decide +kernel
theorem d_CF_nodes_98 : decode Y_CF_nodes.2.1 98 = .ok (.invokevirtual 254, 3) := by decide +kernel
theorem d_CF_nodes_101 : decode Y_CF_nodes.2.1 101 = .ok (.iadd, 1) := by decide +kernel
theorem d_CF_nodes_102 : decode Y_CF_nodes.2.1 102 = .ok (.istore_n 1, 1) := by decide +kernel
theorem d_CF_nodes_103 : decode Y_CF_nodes.2.1 103 = .ok (.iinc 3 1, 3) := by decide +kernel
theorem d_CF_nodes_106 : decode Y_CF_nodes.2.1 106 = .ok (.goto (-24), 3) := by decide +kernel
theorem d_CF_nodes_109 : decode Y_CF_nodes.2.1 109 = .ok (.iinc 2 (-1), 3) := by decide +kernel
theorem d_CF_nodes_112 : decode Y_CF_nodes.2.1 112 = .ok (.goto (-36), 3) := by decide +kernel
theorem d_CF_nodes_115 : decode Y_CF_nodes.2.1 115 = .ok (.iload_n 1, 1) := by decide +kernel
theorem d_CF_nodes_116 : decode Y_CF_nodes.2.1 116 = .ok (.ireturn, 1) := by decide +kernel
theorem d_CF_derives_0 : decode Y_CF_derives.2.1 0 = .ok (.iload_n 1, 1) := by decide +kernel
theorem d_CF_derives_1 : decode Y_CF_derives.2.1 1 = .ok (.bipush 8, 2) := by decide +kernel
theorem d_CF_derives_3 : decode Y_CF_derives.2.1 3 = .ok (.if_icmp .lt 26, 3) := by decide +kernel
theorem d_CF_derives_6 : decode Y_CF_derives.2.1 6 = .ok (.iload_n 3, 1) := by decide +kernel
theorem d_CF_derives_7 : decode Y_CF_derives.2.1 7 = .ok (.iload_n 2, 1) := by decide +kernel
theorem d_CF_derives_8 : decode Y_CF_derives.2.1 8 = .ok (.iconst 1, 1) := by decide +kernel
theorem d_CF_derives_9 : decode Y_CF_derives.2.1 9 = .ok (.iadd, 1) := by decide +kernel
theorem d_CF_derives_10 : decode Y_CF_derives.2.1 10 = .ok (.if_icmp .ne 17, 3) := by decide +kernel
theorem d_CF_derives_13 : decode Y_CF_derives.2.1 13 = .ok (.aload_n 0, 1) := by decide +kernel
theorem d_CF_derives_14 : decode Y_CF_derives.2.1 14 = .ok (.getfield 33, 3) := by decide +kernel
theorem d_CF_derives_17 : decode Y_CF_derives.2.1 17 = .ok (.iload_n 2, 1) := by decide +kernel
theorem d_CF_derives_18 : decode Y_CF_derives.2.1 18 = .ok (.iaload, 1) := by decide +kernel
theorem d_CF_derives_19 : decode Y_CF_derives.2.1 19 = .ok (.iload_n 1, 1) := by decide +kernel
theorem d_CF_derives_20 : decode Y_CF_derives.2.1 20 = .ok (.if_icmp .ne 7, 3) := by decide +kernel
theorem d_CF_derives_23 : decode Y_CF_derives.2.1 23 = .ok (.iconst 1, 1) := by decide +kernel
theorem d_CF_derives_24 : decode Y_CF_derives.2.1 24 = .ok (.goto 4, 3) := by decide +kernel
theorem d_CF_derives_27 : decode Y_CF_derives.2.1 27 = .ok (.iconst 0, 1) := by decide +kernel
theorem d_CF_derives_28 : decode Y_CF_derives.2.1 28 = .ok (.ireturn, 1) := by decide +kernel
theorem d_CF_derives_29 : decode Y_CF_derives.2.1 29 = .ok (.aload_n 0, 1) := by decide +kernel
theorem d_CF_derives_30 : decode Y_CF_derives.2.1 30 = .ok (.getfield 39, 3) := by decide +kernel
theorem d_CF_derives_33 : decode Y_CF_derives.2.1 33 = .ok (.iload_n 3, 1) := by decide +kernel
theorem d_CF_derives_34 : decode Y_CF_derives.2.1 34 = .ok (.aaload, 1) := by decide +kernel
theorem d_CF_derives_35 : decode Y_CF_derives.2.1 35 = .ok (.getfield 178, 3) := by decide +kernel
theorem d_CF_derives_38 : decode Y_CF_derives.2.1 38 = .ok (.iload_n 2, 1) := by decide +kernel
theorem d_CF_derives_39 : decode Y_CF_derives.2.1 39 = .ok (.iaload, 1) := by decide +kernel
theorem d_CF_derives_40 : decode Y_CF_derives.2.1 40 = .ok (.iload_n 1, 1) := by decide +kernel
theorem d_CF_derives_41 : decode Y_CF_derives.2.1 41 = .ok (.ishr, 1) := by decide +kernel
theorem d_CF_derives_42 : decode Y_CF_derives.2.1 42 = .ok (.iconst 1, 1) := by decide +kernel
theorem d_CF_derives_43 : decode Y_CF_derives.2.1 43 = .ok (.iand, 1) := by decide +kernel
theorem d_CF_derives_44 : decode Y_CF_derives.2.1 44 = .ok (.iconst 1, 1) := by decide +kernel
theorem d_CF_derives_45 : decode Y_CF_derives.2.1 45 = .ok (.if_icmp .ne 7, 3) := by decide +kernel
theorem d_CF_derives_48 : decode Y_CF_derives.2.1 48 = .ok (.iconst 1, 1) := by decide +kernel
theorem d_CF_derives_49 : decode Y_CF_derives.2.1 49 = .ok (.goto 4, 3) := by decide +kernel
theorem d_CF_derives_52 : decode Y_CF_derives.2.1 52 = .ok (.iconst 0, 1) := by decide +kernel
theorem d_CF_derives_53 : decode Y_CF_derives.2.1 53 = .ok (.ireturn, 1) := by decide +kernel
theorem d_CF_meetAll_0 : decode Y_CF_meetAll.2.1 0 = .ok (.iconst 0, 1) := by decide +kernel
theorem d_CF_meetAll_1 : decode Y_CF_meetAll.2.1 1 = .ok (.istore_n 3, 1) := by decide +kernel
theorem d_CF_meetAll_2 : decode Y_CF_meetAll.2.1 2 = .ok (.iconst 1, 1) := by decide +kernel
theorem d_CF_meetAll_3 : decode Y_CF_meetAll.2.1 3 = .ok (.istore 4, 2) := by decide +kernel
theorem d_CF_meetAll_5 : decode Y_CF_meetAll.2.1 5 = .ok (.iload 4, 2) := by decide +kernel
theorem d_CF_meetAll_7 : decode Y_CF_meetAll.2.1 7 = .ok (.ifCond .eq 67, 3) := by decide +kernel
theorem d_CF_meetAll_10 : decode Y_CF_meetAll.2.1 10 = .ok (.iconst 0, 1) := by decide +kernel
theorem d_CF_meetAll_11 : decode Y_CF_meetAll.2.1 11 = .ok (.istore 4, 2) := by decide +kernel
theorem d_CF_meetAll_13 : decode Y_CF_meetAll.2.1 13 = .ok (.iconst 0, 1) := by decide +kernel
theorem d_CF_meetAll_14 : decode Y_CF_meetAll.2.1 14 = .ok (.istore 5, 2) := by decide +kernel
theorem d_CF_meetAll_16 : decode Y_CF_meetAll.2.1 16 = .ok (.iload 5, 2) := by decide +kernel
theorem d_CF_meetAll_18 : decode Y_CF_meetAll.2.1 18 = .ok (.iconst 5, 1) := by decide +kernel
theorem d_CF_meetAll_19 : decode Y_CF_meetAll.2.1 19 = .ok (.if_icmp .ge 52, 3) := by decide +kernel
theorem d_CF_meetAll_22 : decode Y_CF_meetAll.2.1 22 = .ok (.iload_n 3, 1) := by decide +kernel
theorem d_CF_meetAll_23 : decode Y_CF_meetAll.2.1 23 = .ok (.iload 5, 2) := by decide +kernel
theorem d_CF_meetAll_25 : decode Y_CF_meetAll.2.1 25 = .ok (.ishr, 1) := by decide +kernel
theorem d_CF_meetAll_26 : decode Y_CF_meetAll.2.1 26 = .ok (.iconst 1, 1) := by decide +kernel
theorem d_CF_meetAll_27 : decode Y_CF_meetAll.2.1 27 = .ok (.iand, 1) := by decide +kernel
theorem d_CF_meetAll_28 : decode Y_CF_meetAll.2.1 28 = .ok (.ifCond .ne 37, 3) := by decide +kernel
theorem d_CF_meetAll_31 : decode Y_CF_meetAll.2.1 31 = .ok (.aload_n 0, 1) := by decide +kernel
theorem d_CF_meetAll_32 : decode Y_CF_meetAll.2.1 32 = .ok (.getfield 65, 3) := by decide +kernel
theorem d_CF_meetAll_35 : decode Y_CF_meetAll.2.1 35 = .ok (.iconst 5, 1) := by decide +kernel
theorem d_CF_meetAll_36 : decode Y_CF_meetAll.2.1 36 = .ok (.iload_n 2, 1) := by decide +kernel
theorem d_CF_meetAll_37 : decode Y_CF_meetAll.2.1 37 = .ok (.imul, 1) := by decide +kernel
theorem d_CF_meetAll_38 : decode Y_CF_meetAll.2.1 38 = .ok (.iload 5, 2) := by decide +kernel
theorem d_CF_meetAll_40 : decode Y_CF_meetAll.2.1 40 = .ok (.iadd, 1) := by decide +kernel
theorem d_CF_meetAll_41 : decode Y_CF_meetAll.2.1 41 = .ok (.aaload, 1) := by decide +kernel
theorem d_CF_meetAll_42 : decode Y_CF_meetAll.2.1 42 = .ok (.iload_n 1, 1) := by decide +kernel
theorem d_CF_meetAll_43 : decode Y_CF_meetAll.2.1 43 = .ok (.baload, 1) := by decide +kernel
theorem d_CF_meetAll_44 : decode Y_CF_meetAll.2.1 44 = .ok (.ifCond .eq 21, 3) := by decide +kernel
theorem d_CF_meetAll_47 : decode Y_CF_meetAll.2.1 47 = .ok (.iload_n 3, 1) := by decide +kernel
theorem d_CF_meetAll_48 : decode Y_CF_meetAll.2.1 48 = .ok (.iconst 1, 1) := by decide +kernel
theorem d_CF_meetAll_49 : decode Y_CF_meetAll.2.1 49 = .ok (.iload 5, 2) := by decide +kernel
theorem d_CF_meetAll_51 : decode Y_CF_meetAll.2.1 51 = .ok (.ishl, 1) := by decide +kernel
theorem d_CF_meetAll_52 : decode Y_CF_meetAll.2.1 52 = .ok (.ior, 1) := by decide +kernel
theorem d_CF_meetAll_53 : decode Y_CF_meetAll.2.1 53 = .ok (.istore_n 3, 1) := by decide +kernel
theorem d_CF_meetAll_54 : decode Y_CF_meetAll.2.1 54 = .ok (.aload_n 0, 1) := by decide +kernel
theorem d_CF_meetAll_55 : decode Y_CF_meetAll.2.1 55 = .ok (.iload 5, 2) := by decide +kernel
theorem d_CF_meetAll_57 : decode Y_CF_meetAll.2.1 57 = .ok (.iload_n 1, 1) := by decide +kernel
theorem d_CF_meetAll_58 : decode Y_CF_meetAll.2.1 58 = .ok (.iload_n 2, 1) := by decide +kernel
theorem d_CF_meetAll_59 : decode Y_CF_meetAll.2.1 59 = .ok (.invokevirtual 258, 3) := by decide +kernel
theorem d_CF_meetAll_62 : decode Y_CF_meetAll.2.1 62 = .ok (.iconst 1, 1) := by decide +kernel
theorem d_CF_meetAll_63 : decode Y_CF_meetAll.2.1 63 = .ok (.istore 4, 2) := by decide +kernel
theorem d_CF_meetAll_65 : decode Y_CF_meetAll.2.1 65 = .ok (.iinc 5 1, 3) := by decide +kernel
theorem d_CF_meetAll_68 : decode Y_CF_meetAll.2.1 68 = .ok (.goto (-52), 3) := by decide +kernel
theorem d_CF_meetAll_71 : decode Y_CF_meetAll.2.1 71 = .ok (.goto (-66), 3) := by decide +kernel
theorem d_CF_meetAll_74 : decode Y_CF_meetAll.2.1 74 = .ok (.iload_n 3, 1) := by decide +kernel
theorem d_CF_meetAll_75 : decode Y_CF_meetAll.2.1 75 = .ok (.invokestatic 261, 3) := by decide +kernel
theorem d_CF_meetAll_78 : decode Y_CF_meetAll.2.1 78 = .ok (.ireturn, 1) := by decide +kernel
theorem d_CF_markBelow_0 : decode Y_CF_markBelow.2.1 0 = .ok (.iconst 0, 1) := by decide +kernel
theorem d_CF_markBelow_1 : decode Y_CF_markBelow.2.1 1 = .ok (.istore 4, 2) := by decide +kernel
theorem d_CF_markBelow_3 : decode Y_CF_markBelow.2.1 3 = .ok (.iload 4, 2) := by decide +kernel
theorem d_CF_markBelow_5 : decode Y_CF_markBelow.2.1 5 = .ok (.aload_n 0, 1) := by decide +kernel
theorem d_CF_markBelow_6 : decode Y_CF_markBelow.2.1 6 = .ok (.getfield 23, 3) := by decide +kernel
theorem d_CF_markBelow_9 : decode Y_CF_markBelow.2.1 9 = .ok (.invokevirtual 105, 3) := by decide +kernel
theorem d_CF_markBelow_12 : decode Y_CF_markBelow.2.1 12 = .ok (.if_icmp .ge 134, 3) := by decide +kernel
theorem d_CF_markBelow_15 : decode Y_CF_markBelow.2.1 15 = .ok (.aload_n 0, 1) := by decide +kernel
theorem d_CF_markBelow_16 : decode Y_CF_markBelow.2.1 16 = .ok (.getfield 23, 3) := by decide +kernel
theorem d_CF_markBelow_19 : decode Y_CF_markBelow.2.1 19 = .ok (.iload 4, 2) := by decide +kernel
theorem d_CF_markBelow_21 : decode Y_CF_markBelow.2.1 21 = .ok (.invokevirtual 87, 3) := by decide +kernel
theorem d_CF_markBelow_24 : decode Y_CF_markBelow.2.1 24 = .ok (.checkcast 9, 3) := by decide +kernel
theorem d_CF_markBelow_27 : decode Y_CF_markBelow.2.1 27 = .ok (.astore 5, 2) := by decide +kernel
theorem d_CF_markBelow_29 : decode Y_CF_markBelow.2.1 29 = .ok (.aload 5, 2) := by decide +kernel
theorem d_CF_markBelow_31 : decode Y_CF_markBelow.2.1 31 = .ok (.getfield 144, 3) := by decide +kernel
theorem d_CF_markBelow_34 : decode Y_CF_markBelow.2.1 34 = .ok (.iload_n 1, 1) := by decide +kernel
theorem d_CF_markBelow_35 : decode Y_CF_markBelow.2.1 35 = .ok (.if_icmp .eq 6, 3) := by decide +kernel
theorem d_CF_markBelow_38 : decode Y_CF_markBelow.2.1 38 = .ok (.goto 102, 3) := by decide +kernel
theorem d_CF_markBelow_41 : decode Y_CF_markBelow.2.1 41 = .ok (.aload_n 0, 1) := by decide +kernel
theorem d_CF_markBelow_42 : decode Y_CF_markBelow.2.1 42 = .ok (.getfield 46, 3) := by decide +kernel
theorem d_CF_markBelow_45 : decode Y_CF_markBelow.2.1 45 = .ok (.aload_n 0, 1) := by decide +kernel
theorem d_CF_markBelow_46 : decode Y_CF_markBelow.2.1 46 = .ok (.aload 5, 2) := by decide +kernel
theorem d_CF_markBelow_48 : decode Y_CF_markBelow.2.1 48 = .ok (.iload_n 2, 1) := by decide +kernel
theorem d_CF_markBelow_49 : decode Y_CF_markBelow.2.1 49 = .ok (.iload_n 3, 1) := by decide +kernel
theorem d_CF_markBelow_50 : decode Y_CF_markBelow.2.1 50 = .ok (.invokevirtual 181, 3) := by decide +kernel
theorem d_CF_markBelow_53 : decode Y_CF_markBelow.2.1 53 = .ok (.aload_n 0, 1) := by decide +kernel
theorem d_CF_markBelow_54 : decode Y_CF_markBelow.2.1 54 = .ok (.getfield 46, 3) := by decide +kernel
theorem d_CF_markBelow_57 : decode Y_CF_markBelow.2.1 57 = .ok (.invokevirtual 185, 3) := by decide +kernel
theorem d_CF_markBelow_60 : decode Y_CF_markBelow.2.1 60 = .ok (.ifCond .eq 80, 3) := by decide +kernel
theorem d_CF_markBelow_63 : decode Y_CF_markBelow.2.1 63 = .ok (.iconst 0, 1) := by decide +kernel
theorem d_CF_markBelow_64 : decode Y_CF_markBelow.2.1 64 = .ok (.istore 6, 2) := by decide +kernel
theorem d_CF_markBelow_66 : decode Y_CF_markBelow.2.1 66 = .ok (.iload 6, 2) := by decide +kernel
theorem d_CF_markBelow_68 : decode Y_CF_markBelow.2.1 68 = .ok (.aload 5, 2) := by decide +kernel
theorem d_CF_markBelow_70 : decode Y_CF_markBelow.2.1 70 = .ok (.getfield 189, 3) := by decide +kernel
theorem d_CF_markBelow_73 : decode Y_CF_markBelow.2.1 73 = .ok (.arraylength, 1) := by decide +kernel
theorem d_CF_markBelow_74 : decode Y_CF_markBelow.2.1 74 = .ok (.if_icmp .ge 63, 3) := by decide +kernel
theorem d_CF_markBelow_77 : decode Y_CF_markBelow.2.1 77 = .ok (.aload 5, 2) := by decide +kernel
theorem d_CF_markBelow_79 : decode Y_CF_markBelow.2.1 79 = .ok (.getfield 189, 3) := by decide +kernel
theorem d_CF_markBelow_82 : decode Y_CF_markBelow.2.1 82 = .ok (.iload 6, 2) := by decide +kernel
theorem d_CF_markBelow_84 : decode Y_CF_markBelow.2.1 84 = .ok (.iaload, 1) := by decide +kernel
theorem d_CF_markBelow_85 : decode Y_CF_markBelow.2.1 85 = .ok (.invokestatic 95, 3) := by decide +kernel
theorem d_CF_markBelow_88 : decode Y_CF_markBelow.2.1 88 = .ok (.ifCond .eq 43, 3) := by decide +kernel
theorem d_CF_markBelow_91 : decode Y_CF_markBelow.2.1 91 = .ok (.aload_n 0, 1) := by decide +kernel
theorem d_CF_markBelow_92 : decode Y_CF_markBelow.2.1 92 = .ok (.getfield 65, 3) := by decide +kernel
theorem d_CF_markBelow_95 : decode Y_CF_markBelow.2.1 95 = .ok (.iconst 5, 1) := by decide +kernel
theorem d_CF_markBelow_96 : decode Y_CF_markBelow.2.1 96 = .ok (.aload_n 0, 1) := by decide +kernel
theorem d_CF_markBelow_97 : decode Y_CF_markBelow.2.1 97 = .ok (.getfield 46, 3) := by decide +kernel
theorem d_CF_markBelow_100 : decode Y_CF_markBelow.2.1 100 = .ok (.getfield 192, 3) := by decide +kernel
theorem d_CF_markBelow_103 : decode Y_CF_markBelow.2.1 103 = .ok (.iload 6, 2) := by decide +kernel
theorem d_CF_markBelow_105 : decode Y_CF_markBelow.2.1 105 = .ok (.iconst 1, 1) := by decide +kernel
theorem d_CF_markBelow_106 : decode Y_CF_markBelow.2.1 106 = .ok (.iadd, 1) := by decide +kernel
theorem d_CF_markBelow_107 : decode Y_CF_markBelow.2.1 107 = .ok (.iaload, 1) := by decide +kernel
theorem d_CF_markBelow_108 : decode Y_CF_markBelow.2.1 108 = .ok (.imul, 1) := by decide +kernel
theorem d_CF_markBelow_109 : decode Y_CF_markBelow.2.1 109 = .ok (.aload 5, 2) := by decide +kernel
theorem d_CF_markBelow_111 : decode Y_CF_markBelow.2.1 111 = .ok (.getfield 189, 3) := by decide +kernel
theorem d_CF_markBelow_114 : decode Y_CF_markBelow.2.1 114 = .ok (.iload 6, 2) := by decide +kernel
theorem d_CF_markBelow_116 : decode Y_CF_markBelow.2.1 116 = .ok (.iaload, 1) := by decide +kernel
theorem d_CF_markBelow_117 : decode Y_CF_markBelow.2.1 117 = .ok (.iadd, 1) := by decide +kernel
theorem d_CF_markBelow_118 : decode Y_CF_markBelow.2.1 118 = .ok (.aaload, 1) := by decide +kernel
theorem d_CF_markBelow_119 : decode Y_CF_markBelow.2.1 119 = .ok (.aload_n 0, 1) := by decide +kernel
theorem d_CF_markBelow_120 : decode Y_CF_markBelow.2.1 120 = .ok (.getfield 46, 3) := by decide +kernel
theorem d_CF_markBelow_123 : decode Y_CF_markBelow.2.1 123 = .ok (.getfield 192, 3) := by decide +kernel
theorem d_CF_markBelow_126 : decode Y_CF_markBelow.2.1 126 = .ok (.iload 6, 2) := by decide +kernel
theorem d_CF_markBelow_128 : decode Y_CF_markBelow.2.1 128 = .ok (.iaload, 1) := by decide +kernel
theorem d_CF_markBelow_129 : decode Y_CF_markBelow.2.1 129 = .ok (.iconst 1, 1) := by decide +kernel
theorem d_CF_markBelow_130 : decode Y_CF_markBelow.2.1 130 = .ok (.bastore, 1) := by decide +kernel
theorem d_CF_markBelow_131 : decode Y_CF_markBelow.2.1 131 = .ok (.iinc 6 1, 3) := by decide +kernel
theorem d_CF_markBelow_134 : decode Y_CF_markBelow.2.1 134 = .ok (.goto (-68), 3) := by decide +kernel
theorem d_CF_markBelow_137 : decode Y_CF_markBelow.2.1 137 = .ok (.goto (-84), 3) := by decide +kernel
theorem d_CF_markBelow_140 : decode Y_CF_markBelow.2.1 140 = .ok (.iinc 4 1, 3) := by decide +kernel
theorem d_CF_markBelow_143 : decode Y_CF_markBelow.2.1 143 = .ok (.goto (-140), 3) := by decide +kernel
theorem d_CF_markBelow_146 : decode Y_CF_markBelow.2.1 146 = .ok (.return_, 1) := by decide +kernel
theorem d_Wa_begin_0 : decode Y_Wa_begin.2.1 0 = .ok (.aload_n 0, 1) := by decide +kernel
theorem d_Wa_begin_1 : decode Y_Wa_begin.2.1 1 = .ok (.aload_n 1, 1) := by decide +kernel
theorem d_Wa_begin_2 : decode Y_Wa_begin.2.1 2 = .ok (.putfield 15, 3) := by decide +kernel
theorem d_Wa_begin_5 : decode Y_Wa_begin.2.1 5 = .ok (.aload_n 0, 1) := by decide +kernel
theorem d_Wa_begin_6 : decode Y_Wa_begin.2.1 6 = .ok (.aload_n 2, 1) := by decide +kernel
theorem d_Wa_begin_7 : decode Y_Wa_begin.2.1 7 = .ok (.putfield 19, 3) := by decide +kernel
theorem d_Wa_begin_10 : decode Y_Wa_begin.2.1 10 = .ok (.aload_n 0, 1) := by decide +kernel
theorem d_Wa_begin_11 : decode Y_Wa_begin.2.1 11 = .ok (.iload 4, 2) := by decide +kernel
theorem d_Wa_begin_13 : decode Y_Wa_begin.2.1 13 = .ok (.putfield 23, 3) := by decide +kernel
theorem d_Wa_begin_16 : decode Y_Wa_begin.2.1 16 = .ok (.aload_n 0, 1) := by decide +kernel
theorem d_Wa_begin_17 : decode Y_Wa_begin.2.1 17 = .ok (.iconst 0, 1) := by decide +kernel
theorem d_Wa_begin_18 : decode Y_Wa_begin.2.1 18 = .ok (.putfield 27, 3) := by decide +kernel
theorem d_Wa_begin_21 : decode Y_Wa_begin.2.1 21 = .ok (.aload_n 0, 1) := by decide +kernel
theorem d_Wa_begin_22 : decode Y_Wa_begin.2.1 22 = .ok (.getfield 9, 3) := by decide +kernel
theorem d_Wa_begin_25 : decode Y_Wa_begin.2.1 25 = .ok (.iconst 0, 1) := by decide +kernel
theorem d_Wa_begin_26 : decode Y_Wa_begin.2.1 26 = .ok (.iload_n 3, 1) := by decide +kernel
theorem d_Wa_begin_27 : decode Y_Wa_begin.2.1 27 = .ok (.iastore, 1) := by decide +kernel
theorem d_Wa_begin_28 : decode Y_Wa_begin.2.1 28 = .ok (.iconst 1, 1) := by decide +kernel
theorem d_Wa_begin_29 : decode Y_Wa_begin.2.1 29 = .ok (.istore 5, 2) := by decide +kernel
theorem d_Wa_begin_31 : decode Y_Wa_begin.2.1 31 = .ok (.iload 5, 2) := by decide +kernel
theorem d_Wa_begin_33 : decode Y_Wa_begin.2.1 33 = .ok (.iconst 3, 1) := by decide +kernel
theorem d_Wa_begin_34 : decode Y_Wa_begin.2.1 34 = .ok (.if_icmp .gt 32, 3) := by decide +kernel
theorem d_Wa_begin_37 : decode Y_Wa_begin.2.1 37 = .ok (.aload_n 0, 1) := by decide +kernel
theorem d_Wa_begin_38 : decode Y_Wa_begin.2.1 38 = .ok (.getfield 9, 3) := by decide +kernel
theorem d_Wa_begin_41 : decode Y_Wa_begin.2.1 41 = .ok (.iload 5, 2) := by decide +kernel
theorem d_Wa_begin_43 : decode Y_Wa_begin.2.1 43 = .ok (.iload 5, 2) := by decide +kernel
theorem d_Wa_begin_45 : decode Y_Wa_begin.2.1 45 = .ok (.aload_n 2, 1) := by decide +kernel
theorem d_Wa_begin_46 : decode Y_Wa_begin.2.1 46 = .ok (.getfield 31, 3) := by decide +kernel
theorem d_Wa_begin_49 : decode Y_Wa_begin.2.1 49 = .ok (.arraylength, 1) := by decide +kernel
theorem d_Wa_begin_50 : decode Y_Wa_begin.2.1 50 = .ok (.if_icmp .ge 7, 3) := by decide +kernel
theorem d_Wa_begin_53 : decode Y_Wa_begin.2.1 53 = .ok (.iload_n 3, 1) := by decide +kernel
theorem d_Wa_begin_54 : decode Y_Wa_begin.2.1 54 = .ok (.goto 5, 3) := by decide +kernel
theorem d_Wa_begin_57 : decode Y_Wa_begin.2.1 57 = .ok (.iload 4, 2) := by decide +kernel
theorem d_Wa_begin_59 : decode Y_Wa_begin.2.1 59 = .ok (.iastore, 1) := by decide +kernel
theorem d_Wa_begin_60 : decode Y_Wa_begin.2.1 60 = .ok (.iinc 5 1, 3) := by decide +kernel
theorem d_Wa_begin_63 : decode Y_Wa_begin.2.1 63 = .ok (.goto (-32), 3) := by decide +kernel
theorem d_Wa_begin_66 : decode Y_Wa_begin.2.1 66 = .ok (.return_, 1) := by decide +kernel
theorem d_Wa_next_0 : decode Y_Wa_next.2.1 0 = .ok (.aload_n 0, 1) := by decide +kernel
theorem d_Wa_next_1 : decode Y_Wa_next.2.1 1 = .ok (.invokevirtual 40, 3) := by decide +kernel
theorem d_Wa_next_4 : decode Y_Wa_next.2.1 4 = .ok (.ifCond .eq 12, 3) := by decide +kernel
theorem d_Wa_next_7 : decode Y_Wa_next.2.1 7 = .ok (.aload_n 0, 1) := by decide +kernel
theorem d_Wa_next_8 : decode Y_Wa_next.2.1 8 = .ok (.invokevirtual 44, 3) := by decide +kernel
theorem d_Wa_next_11 : decode Y_Wa_next.2.1 11 = .ok (.ifCond .eq (-11), 3) := by decide +kernel
theorem d_Wa_next_14 : decode Y_Wa_next.2.1 14 = .ok (.iconst 1, 1) := by decide +kernel
theorem d_Wa_next_15 : decode Y_Wa_next.2.1 15 = .ok (.ireturn, 1) := by decide +kernel
theorem d_Wa_next_16 : decode Y_Wa_next.2.1 16 = .ok (.iconst 0, 1) := by decide +kernel
theorem d_Wa_next_17 : decode Y_Wa_next.2.1 17 = .ok (.ireturn, 1) := by decide +kernel
theorem d_Wa_step_0 : decode Y_Wa_step.2.1 0 = .ok (.aload_n 0, 1) := by decide +kernel
theorem d_Wa_step_1 : decode Y_Wa_step.2.1 1 = .ok (.getfield 19, 3) := by decide +kernel
theorem d_Wa_step_4 : decode Y_Wa_step.2.1 4 = .ok (.getfield 31, 3) := by decide +kernel
theorem d_Wa_step_7 : decode Y_Wa_step.2.1 7 = .ok (.arraylength, 1) := by decide +kernel
theorem d_Wa_step_8 : decode Y_Wa_step.2.1 8 = .ok (.istore_n 1, 1) := by decide +kernel
theorem d_Wa_step_9 : decode Y_Wa_step.2.1 9 = .ok (.aload_n 0, 1) := by decide +kernel
theorem d_Wa_step_10 : decode Y_Wa_step.2.1 10 = .ok (.getfield 27, 3) := by decide +kernel
theorem d_Wa_step_13 : decode Y_Wa_step.2.1 13 = .ok (.ifCond .ne 31, 3) := by decide +kernel
theorem d_Wa_step_16 : decode Y_Wa_step.2.1 16 = .ok (.aload_n 0, 1) := by decide +kernel
theorem d_Wa_step_17 : decode Y_Wa_step.2.1 17 = .ok (.iconst 1, 1) := by decide +kernel
theorem d_Wa_step_18 : decode Y_Wa_step.2.1 18 = .ok (.putfield 27, 3) := by decide +kernel
theorem d_Wa_step_21 : decode Y_Wa_step.2.1 21 = .ok (.iload_n 1, 1) := by decide +kernel
theorem d_Wa_step_22 : decode Y_Wa_step.2.1 22 = .ok (.ifCond .gt 16, 3) := by decide +kernel
theorem d_Wa_step_25 : decode Y_Wa_step.2.1 25 = .ok (.aload_n 0, 1) := by decide +kernel
theorem d_Wa_step_26 : decode Y_Wa_step.2.1 26 = .ok (.getfield 9, 3) := by decide +kernel
theorem d_Wa_step_29 : decode Y_Wa_step.2.1 29 = .ok (.iconst 0, 1) := by decide +kernel
theorem d_Wa_step_30 : decode Y_Wa_step.2.1 30 = .ok (.iaload, 1) := by decide +kernel
theorem d_Wa_step_31 : decode Y_Wa_step.2.1 31 = .ok (.aload_n 0, 1) := by decide +kernel
theorem d_Wa_step_32 : decode Y_Wa_step.2.1 32 = .ok (.getfield 23, 3) := by decide +kernel
theorem d_Wa_step_35 : decode Y_Wa_step.2.1 35 = .ok (.if_icmp .ne 7, 3) := by decide +kernel
theorem d_Wa_step_38 : decode Y_Wa_step.2.1 38 = .ok (.iconst 1, 1) := by decide +kernel
theorem d_Wa_step_39 : decode Y_Wa_step.2.1 39 = .ok (.goto 4, 3) := by decide +kernel
theorem d_Wa_step_42 : decode Y_Wa_step.2.1 42 = .ok (.iconst 0, 1) := by decide +kernel
theorem d_Wa_step_43 : decode Y_Wa_step.2.1 43 = .ok (.ireturn, 1) := by decide +kernel
theorem d_Wa_step_44 : decode Y_Wa_step.2.1 44 = .ok (.iload_n 1, 1) := by decide +kernel
theorem d_Wa_step_45 : decode Y_Wa_step.2.1 45 = .ok (.iconst 1, 1) := by decide +kernel
theorem d_Wa_step_46 : decode Y_Wa_step.2.1 46 = .ok (.isub, 1) := by decide +kernel
theorem d_Wa_step_47 : decode Y_Wa_step.2.1 47 = .ok (.istore_n 2, 1) := by decide +kernel
theorem d_Wa_step_48 : decode Y_Wa_step.2.1 48 = .ok (.iload_n 2, 1) := by decide +kernel
theorem d_Wa_step_49 : decode Y_Wa_step.2.1 49 = .ok (.ifCond .le 22, 3) := by decide +kernel
theorem d_Wa_step_52 : decode Y_Wa_step.2.1 52 = .ok (.aload_n 0, 1) := by decide +kernel
theorem d_Wa_step_53 : decode Y_Wa_step.2.1 53 = .ok (.getfield 9, 3) := by decide +kernel
theorem d_Wa_step_56 : decode Y_Wa_step.2.1 56 = .ok (.iload_n 2, 1) := by decide +kernel
theorem d_Wa_step_57 : decode Y_Wa_step.2.1 57 = .ok (.iaload, 1) := by decide +kernel
theorem d_Wa_step_58 : decode Y_Wa_step.2.1 58 = .ok (.aload_n 0, 1) := by decide +kernel
theorem d_Wa_step_59 : decode Y_Wa_step.2.1 59 = .ok (.getfield 23, 3) := by decide +kernel
theorem d_Wa_step_62 : decode Y_Wa_step.2.1 62 = .ok (.if_icmp .ne 9, 3) := by decide +kernel
theorem d_Wa_step_65 : decode Y_Wa_step.2.1 65 = .ok (.iinc 2 (-1), 3) := by decide +kernel
theorem d_Wa_step_68 : decode Y_Wa_step.2.1 68 = .ok (.goto (-20), 3) := by decide +kernel
theorem d_Wa_step_71 : decode Y_Wa_step.2.1 71 = .ok (.iload_n 2, 1) := by decide +kernel
theorem d_Wa_step_72 : decode Y_Wa_step.2.1 72 = .ok (.ifCond .gt 5, 3) := by decide +kernel
theorem d_Wa_step_75 : decode Y_Wa_step.2.1 75 = .ok (.iconst 0, 1) := by decide +kernel
theorem d_Wa_step_76 : decode Y_Wa_step.2.1 76 = .ok (.ireturn, 1) := by decide +kernel
theorem d_Wa_step_77 : decode Y_Wa_step.2.1 77 = .ok (.aload_n 0, 1) := by decide +kernel
theorem d_Wa_step_78 : decode Y_Wa_step.2.1 78 = .ok (.getfield 9, 3) := by decide +kernel
theorem d_Wa_step_81 : decode Y_Wa_step.2.1 81 = .ok (.iload_n 2, 1) := by decide +kernel
theorem d_Wa_step_82 : decode Y_Wa_step.2.1 82 = .ok (.dup2, 1) := by decide +kernel
theorem d_Wa_step_83 : decode Y_Wa_step.2.1 83 = .ok (.iaload, 1) := by decide +kernel
theorem d_Wa_step_84 : decode Y_Wa_step.2.1 84 = .ok (.iconst 1, 1) := by decide +kernel
theorem d_Wa_step_85 : decode Y_Wa_step.2.1 85 = .ok (.iadd, 1) := by decide +kernel
theorem d_Wa_step_86 : decode Y_Wa_step.2.1 86 = .ok (.iastore, 1) := by decide +kernel
theorem d_Wa_step_87 : decode Y_Wa_step.2.1 87 = .ok (.iload_n 2, 1) := by decide +kernel
theorem d_Wa_step_88 : decode Y_Wa_step.2.1 88 = .ok (.iconst 1, 1) := by decide +kernel
theorem d_Wa_step_89 : decode Y_Wa_step.2.1 89 = .ok (.iadd, 1) := by decide +kernel
theorem d_Wa_step_90 : decode Y_Wa_step.2.1 90 = .ok (.istore_n 3, 1) := by decide +kernel
theorem d_Wa_step_91 : decode Y_Wa_step.2.1 91 = .ok (.iload_n 3, 1) := by decide +kernel
theorem d_Wa_step_92 : decode Y_Wa_step.2.1 92 = .ok (.iload_n 1, 1) := by decide +kernel
theorem d_Wa_step_93 : decode Y_Wa_step.2.1 93 = .ok (.if_icmp .ge 21, 3) := by decide +kernel
theorem d_Wa_step_96 : decode Y_Wa_step.2.1 96 = .ok (.aload_n 0, 1) := by decide +kernel
theorem d_Wa_step_97 : decode Y_Wa_step.2.1 97 = .ok (.getfield 9, 3) := by decide +kernel
theorem d_Wa_step_100 : decode Y_Wa_step.2.1 100 = .ok (.iload_n 3, 1) := by decide +kernel
theorem d_Wa_step_101 : decode Y_Wa_step.2.1 101 = .ok (.aload_n 0, 1) := by decide +kernel
theorem d_Wa_step_102 : decode Y_Wa_step.2.1 102 = .ok (.getfield 9, 3) := by decide +kernel
theorem d_Wa_step_105 : decode Y_Wa_step.2.1 105 = .ok (.iload_n 2, 1) := by decide +kernel
theorem d_Wa_step_106 : decode Y_Wa_step.2.1 106 = .ok (.iaload, 1) := by decide +kernel
theorem d_Wa_step_107 : decode Y_Wa_step.2.1 107 = .ok (.iastore, 1) := by decide +kernel
theorem d_Wa_step_108 : decode Y_Wa_step.2.1 108 = .ok (.iinc 3 1, 3) := by decide +kernel
theorem d_Wa_step_111 : decode Y_Wa_step.2.1 111 = .ok (.goto (-20), 3) := by decide +kernel
theorem d_Wa_step_114 : decode Y_Wa_step.2.1 114 = .ok (.iconst 1, 1) := by decide +kernel
theorem d_Wa_step_115 : decode Y_Wa_step.2.1 115 = .ok (.ireturn, 1) := by decide +kernel
theorem d_Wa_isWay_0 : decode Y_Wa_isWay.2.1 0 = .ok (.iconst 0, 1) := by decide +kernel
theorem d_Wa_isWay_1 : decode Y_Wa_isWay.2.1 1 = .ok (.istore_n 1, 1) := by decide +kernel
theorem d_Wa_isWay_2 : decode Y_Wa_isWay.2.1 2 = .ok (.iload_n 1, 1) := by decide +kernel
theorem d_Wa_isWay_3 : decode Y_Wa_isWay.2.1 3 = .ok (.aload_n 0, 1) := by decide +kernel
theorem d_Wa_isWay_4 : decode Y_Wa_isWay.2.1 4 = .ok (.getfield 19, 3) := by decide +kernel
theorem d_Wa_isWay_7 : decode Y_Wa_isWay.2.1 7 = .ok (.getfield 31, 3) := by decide +kernel
theorem d_Wa_isWay_10 : decode Y_Wa_isWay.2.1 10 = .ok (.arraylength, 1) := by decide +kernel
theorem d_Wa_isWay_11 : decode Y_Wa_isWay.2.1 11 = .ok (.if_icmp .ge 44, 3) := by decide +kernel
theorem d_Wa_isWay_14 : decode Y_Wa_isWay.2.1 14 = .ok (.aload_n 0, 1) := by decide +kernel
theorem d_Wa_isWay_15 : decode Y_Wa_isWay.2.1 15 = .ok (.getfield 15, 3) := by decide +kernel
theorem d_Wa_isWay_18 : decode Y_Wa_isWay.2.1 18 = .ok (.aload_n 0, 1) := by decide +kernel
theorem d_Wa_isWay_19 : decode Y_Wa_isWay.2.1 19 = .ok (.getfield 19, 3) := by decide +kernel
theorem d_Wa_isWay_22 : decode Y_Wa_isWay.2.1 22 = .ok (.getfield 31, 3) := by decide +kernel
theorem d_Wa_isWay_25 : decode Y_Wa_isWay.2.1 25 = .ok (.iload_n 1, 1) := by decide +kernel
theorem d_Wa_isWay_26 : decode Y_Wa_isWay.2.1 26 = .ok (.iaload, 1) := by decide +kernel
theorem d_Wa_isWay_27 : decode Y_Wa_isWay.2.1 27 = .ok (.aload_n 0, 1) := by decide +kernel
theorem d_Wa_isWay_28 : decode Y_Wa_isWay.2.1 28 = .ok (.getfield 9, 3) := by decide +kernel
theorem d_Wa_isWay_31 : decode Y_Wa_isWay.2.1 31 = .ok (.iload_n 1, 1) := by decide +kernel
theorem d_Wa_isWay_32 : decode Y_Wa_isWay.2.1 32 = .ok (.iaload, 1) := by decide +kernel
theorem d_Wa_isWay_33 : decode Y_Wa_isWay.2.1 33 = .ok (.aload_n 0, 1) := by decide +kernel
theorem d_Wa_isWay_34 : decode Y_Wa_isWay.2.1 34 = .ok (.getfield 9, 3) := by decide +kernel
theorem d_Wa_isWay_37 : decode Y_Wa_isWay.2.1 37 = .ok (.iload_n 1, 1) := by decide +kernel
theorem d_Wa_isWay_38 : decode Y_Wa_isWay.2.1 38 = .ok (.iconst 1, 1) := by decide +kernel
theorem d_Wa_isWay_39 : decode Y_Wa_isWay.2.1 39 = .ok (.iadd, 1) := by decide +kernel
theorem d_Wa_isWay_40 : decode Y_Wa_isWay.2.1 40 = .ok (.iaload, 1) := by decide +kernel
theorem d_Wa_isWay_41 : decode Y_Wa_isWay.2.1 41 = .ok (.invokevirtual 36, 3) := by decide +kernel
theorem d_Wa_isWay_44 : decode Y_Wa_isWay.2.1 44 = .ok (.ifCond .ne 5, 3) := by decide +kernel
theorem d_Wa_isWay_47 : decode Y_Wa_isWay.2.1 47 = .ok (.iconst 0, 1) := by decide +kernel
theorem d_Wa_isWay_48 : decode Y_Wa_isWay.2.1 48 = .ok (.ireturn, 1) := by decide +kernel
theorem d_Wa_isWay_49 : decode Y_Wa_isWay.2.1 49 = .ok (.iinc 1 1, 3) := by decide +kernel
theorem d_Wa_isWay_52 : decode Y_Wa_isWay.2.1 52 = .ok (.goto (-50), 3) := by decide +kernel
theorem d_Wa_isWay_55 : decode Y_Wa_isWay.2.1 55 = .ok (.iconst 1, 1) := by decide +kernel
theorem d_Wa_isWay_56 : decode Y_Wa_isWay.2.1 56 = .ok (.ireturn, 1) := by decide +kernel
theorem d_In_bitCount_0 : decode Y_In_bitCount.2.1 0 = .ok (.iload_n 0, 1) := by decide +kernel
theorem d_In_bitCount_1 : decode Y_In_bitCount.2.1 1 = .ok (.iload_n 0, 1) := by decide +kernel
theorem d_In_bitCount_2 : decode Y_In_bitCount.2.1 2 = .ok (.iconst 1, 1) := by decide +kernel
theorem d_In_bitCount_3 : decode Y_In_bitCount.2.1 3 = .ok (.iushr, 1) := by decide +kernel
theorem d_In_bitCount_4 : decode Y_In_bitCount.2.1 4 = .ok (.ldc_w 265, 3) := by decide +kernel
theorem d_In_bitCount_7 : decode Y_In_bitCount.2.1 7 = .ok (.iand, 1) := by decide +kernel
theorem d_In_bitCount_8 : decode Y_In_bitCount.2.1 8 = .ok (.isub, 1) := by decide +kernel
theorem d_In_bitCount_9 : decode Y_In_bitCount.2.1 9 = .ok (.istore_n 0, 1) := by decide +kernel
theorem d_In_bitCount_10 : decode Y_In_bitCount.2.1 10 = .ok (.iload_n 0, 1) := by decide +kernel
theorem d_In_bitCount_11 : decode Y_In_bitCount.2.1 11 = .ok (.ldc_w 266, 3) := by decide +kernel
theorem d_In_bitCount_14 : decode Y_In_bitCount.2.1 14 = .ok (.iand, 1) := by decide +kernel
theorem d_In_bitCount_15 : decode Y_In_bitCount.2.1 15 = .ok (.iload_n 0, 1) := by decide +kernel
theorem d_In_bitCount_16 : decode Y_In_bitCount.2.1 16 = .ok (.iconst 2, 1) := by decide +kernel
theorem d_In_bitCount_17 : decode Y_In_bitCount.2.1 17 = .ok (.iushr, 1) := by decide +kernel
theorem d_In_bitCount_18 : decode Y_In_bitCount.2.1 18 = .ok (.ldc_w 266, 3) := by decide +kernel
theorem d_In_bitCount_21 : decode Y_In_bitCount.2.1 21 = .ok (.iand, 1) := by decide +kernel
theorem d_In_bitCount_22 : decode Y_In_bitCount.2.1 22 = .ok (.iadd, 1) := by decide +kernel
theorem d_In_bitCount_23 : decode Y_In_bitCount.2.1 23 = .ok (.istore_n 0, 1) := by decide +kernel
theorem d_In_bitCount_24 : decode Y_In_bitCount.2.1 24 = .ok (.iload_n 0, 1) := by decide +kernel
theorem d_In_bitCount_25 : decode Y_In_bitCount.2.1 25 = .ok (.iload_n 0, 1) := by decide +kernel
theorem d_In_bitCount_26 : decode Y_In_bitCount.2.1 26 = .ok (.iconst 4, 1) := by decide +kernel
theorem d_In_bitCount_27 : decode Y_In_bitCount.2.1 27 = .ok (.iushr, 1) := by decide +kernel
theorem d_In_bitCount_28 : decode Y_In_bitCount.2.1 28 = .ok (.iadd, 1) := by decide +kernel
theorem d_In_bitCount_29 : decode Y_In_bitCount.2.1 29 = .ok (.ldc_w 267, 3) := by decide +kernel
theorem d_In_bitCount_32 : decode Y_In_bitCount.2.1 32 = .ok (.iand, 1) := by decide +kernel
theorem d_In_bitCount_33 : decode Y_In_bitCount.2.1 33 = .ok (.istore_n 0, 1) := by decide +kernel
theorem d_In_bitCount_34 : decode Y_In_bitCount.2.1 34 = .ok (.iload_n 0, 1) := by decide +kernel
theorem d_In_bitCount_35 : decode Y_In_bitCount.2.1 35 = .ok (.iload_n 0, 1) := by decide +kernel
theorem d_In_bitCount_36 : decode Y_In_bitCount.2.1 36 = .ok (.bipush 8, 2) := by decide +kernel
theorem d_In_bitCount_38 : decode Y_In_bitCount.2.1 38 = .ok (.iushr, 1) := by decide +kernel
theorem d_In_bitCount_39 : decode Y_In_bitCount.2.1 39 = .ok (.iadd, 1) := by decide +kernel
theorem d_In_bitCount_40 : decode Y_In_bitCount.2.1 40 = .ok (.istore_n 0, 1) := by decide +kernel
theorem d_In_bitCount_41 : decode Y_In_bitCount.2.1 41 = .ok (.iload_n 0, 1) := by decide +kernel
theorem d_In_bitCount_42 : decode Y_In_bitCount.2.1 42 = .ok (.iload_n 0, 1) := by decide +kernel
theorem d_In_bitCount_43 : decode Y_In_bitCount.2.1 43 = .ok (.bipush 16, 2) := by decide +kernel
theorem d_In_bitCount_45 : decode Y_In_bitCount.2.1 45 = .ok (.iushr, 1) := by decide +kernel
theorem d_In_bitCount_46 : decode Y_In_bitCount.2.1 46 = .ok (.iadd, 1) := by decide +kernel
theorem d_In_bitCount_47 : decode Y_In_bitCount.2.1 47 = .ok (.istore_n 0, 1) := by decide +kernel
theorem d_In_bitCount_48 : decode Y_In_bitCount.2.1 48 = .ok (.iload_n 0, 1) := by decide +kernel
theorem d_In_bitCount_49 : decode Y_In_bitCount.2.1 49 = .ok (.bipush 63, 2) := by decide +kernel
theorem d_In_bitCount_51 : decode Y_In_bitCount.2.1 51 = .ok (.iand, 1) := by decide +kernel
theorem d_In_bitCount_52 : decode Y_In_bitCount.2.1 52 = .ok (.ireturn, 1) := by decide +kernel
theorem d_CF_rule_0 : decode Y_CF_rule.2.1 0 = .ok (.iload_n 1, 1) := by decide +kernel
theorem d_CF_rule_1 : decode Y_CF_rule.2.1 1 = .ok (.invokestatic 95, 3) := by decide +kernel
theorem d_CF_rule_4 : decode Y_CF_rule.2.1 4 = .ok (.ifCond .eq 20, 3) := by decide +kernel
theorem d_CF_rule_7 : decode Y_CF_rule.2.1 7 = .ok (.iload_n 2, 1) := by decide +kernel
theorem d_CF_rule_8 : decode Y_CF_rule.2.1 8 = .ok (.ifCond .lt 16, 3) := by decide +kernel
theorem d_CF_rule_11 : decode Y_CF_rule.2.1 11 = .ok (.iload_n 2, 1) := by decide +kernel
theorem d_CF_rule_12 : decode Y_CF_rule.2.1 12 = .ok (.iconst 3, 1) := by decide +kernel
theorem d_CF_rule_13 : decode Y_CF_rule.2.1 13 = .ok (.if_icmp .gt 11, 3) := by decide +kernel
theorem d_CF_rule_16 : decode Y_CF_rule.2.1 16 = .ok (.iload_n 3, 1) := by decide +kernel
theorem d_CF_rule_17 : decode Y_CF_rule.2.1 17 = .ok (.iconst 4, 1) := by decide +kernel
theorem d_CF_rule_18 : decode Y_CF_rule.2.1 18 = .ok (.iload_n 2, 1) := by decide +kernel
theorem d_CF_rule_19 : decode Y_CF_rule.2.1 19 = .ok (.imul, 1) := by decide +kernel
theorem d_CF_rule_20 : decode Y_CF_rule.2.1 20 = .ok (.iushr, 1) := by decide +kernel
theorem d_CF_rule_21 : decode Y_CF_rule.2.1 21 = .ok (.ifCond .eq 11, 3) := by decide +kernel
theorem d_CF_rule_24 : decode Y_CF_rule.2.1 24 = .ok (.new 99, 3) := by decide +kernel
theorem d_CF_rule_27 : decode Y_CF_rule.2.1 27 = .ok (.dup, 1) := by decide +kernel
theorem d_CF_rule_28 : decode Y_CF_rule.2.1 28 = .ok (.invokespecial 101, 3) := by decide +kernel
theorem d_CF_rule_31 : decode Y_CF_rule.2.1 31 = .ok (.athrow, 1) := by decide +kernel
theorem d_CF_rule_32 : decode Y_CF_rule.2.1 32 = .ok (.iconst 0, 1) := by decide +kernel
theorem d_CF_rule_33 : decode Y_CF_rule.2.1 33 = .ok (.istore 4, 2) := by decide +kernel
theorem d_CF_rule_35 : decode Y_CF_rule.2.1 35 = .ok (.iload 4, 2) := by decide +kernel
theorem d_CF_rule_37 : decode Y_CF_rule.2.1 37 = .ok (.iload_n 2, 1) := by decide +kernel
theorem d_CF_rule_38 : decode Y_CF_rule.2.1 38 = .ok (.if_icmp .ge 44, 3) := by decide +kernel
theorem d_CF_rule_41 : decode Y_CF_rule.2.1 41 = .ok (.iload_n 3, 1) := by decide +kernel
theorem d_CF_rule_42 : decode Y_CF_rule.2.1 42 = .ok (.iconst 4, 1) := by decide +kernel
theorem d_CF_rule_43 : decode Y_CF_rule.2.1 43 = .ok (.iload 4, 2) := by decide +kernel
theorem d_CF_rule_45 : decode Y_CF_rule.2.1 45 = .ok (.imul, 1) := by decide +kernel
theorem d_CF_rule_46 : decode Y_CF_rule.2.1 46 = .ok (.ishr, 1) := by decide +kernel
theorem d_CF_rule_47 : decode Y_CF_rule.2.1 47 = .ok (.bipush 15, 2) := by decide +kernel
theorem d_CF_rule_49 : decode Y_CF_rule.2.1 49 = .ok (.iand, 1) := by decide +kernel
theorem d_CF_rule_50 : decode Y_CF_rule.2.1 50 = .ok (.istore 5, 2) := by decide +kernel
theorem d_CF_rule_52 : decode Y_CF_rule.2.1 52 = .ok (.iload 5, 2) := by decide +kernel
theorem d_CF_rule_54 : decode Y_CF_rule.2.1 54 = .ok (.invokestatic 95, 3) := by decide +kernel
theorem d_CF_rule_57 : decode Y_CF_rule.2.1 57 = .ok (.ifCond .ne 19, 3) := by decide +kernel
theorem d_CF_rule_60 : decode Y_CF_rule.2.1 60 = .ok (.iload 5, 2) := by decide +kernel
theorem d_CF_rule_62 : decode Y_CF_rule.2.1 62 = .ok (.invokestatic 102, 3) := by decide +kernel
theorem d_CF_rule_65 : decode Y_CF_rule.2.1 65 = .ok (.ifCond .ne 11, 3) := by decide +kernel
theorem d_CF_rule_68 : decode Y_CF_rule.2.1 68 = .ok (.new 99, 3) := by decide +kernel
theorem d_CF_rule_71 : decode Y_CF_rule.2.1 71 = .ok (.dup, 1) := by decide +kernel
theorem d_CF_rule_72 : decode Y_CF_rule.2.1 72 = .ok (.invokespecial 101, 3) := by decide +kernel
theorem d_CF_rule_75 : decode Y_CF_rule.2.1 75 = .ok (.athrow, 1) := by decide +kernel
theorem d_CF_rule_76 : decode Y_CF_rule.2.1 76 = .ok (.iinc 4 1, 3) := by decide +kernel
theorem d_CF_rule_79 : decode Y_CF_rule.2.1 79 = .ok (.goto (-44), 3) := by decide +kernel
theorem d_CF_rule_82 : decode Y_CF_rule.2.1 82 = .ok (.aload_n 0, 1) := by decide +kernel
theorem d_CF_rule_83 : decode Y_CF_rule.2.1 83 = .ok (.getfield 23, 3) := by decide +kernel
theorem d_CF_rule_86 : decode Y_CF_rule.2.1 86 = .ok (.invokevirtual 105, 3) := by decide +kernel
theorem d_CF_rule_89 : decode Y_CF_rule.2.1 89 = .ok (.bipush 10, 2) := by decide +kernel
theorem d_CF_rule_91 : decode Y_CF_rule.2.1 91 = .ok (.if_icmp .ge 10, 3) := by decide +kernel
theorem d_CF_rule_94 : decode Y_CF_rule.2.1 94 = .ok (.aload_n 0, 1) := by decide +kernel
theorem d_CF_rule_95 : decode Y_CF_rule.2.1 95 = .ok (.getfield 109, 3) := by decide +kernel
theorem d_CF_rule_98 : decode Y_CF_rule.2.1 98 = .ok (.ifCond .le 11, 3) := by decide +kernel
theorem d_CF_rule_101 : decode Y_CF_rule.2.1 101 = .ok (.new 113, 3) := by decide +kernel
theorem d_CF_rule_104 : decode Y_CF_rule.2.1 104 = .ok (.dup, 1) := by decide +kernel
theorem d_CF_rule_105 : decode Y_CF_rule.2.1 105 = .ok (.invokespecial 115, 3) := by decide +kernel
theorem d_CF_rule_108 : decode Y_CF_rule.2.1 108 = .ok (.athrow, 1) := by decide +kernel
theorem d_CF_rule_109 : decode Y_CF_rule.2.1 109 = .ok (.aload_n 0, 1) := by decide +kernel
theorem d_CF_rule_110 : decode Y_CF_rule.2.1 110 = .ok (.getfield 23, 3) := by decide +kernel
theorem d_CF_rule_113 : decode Y_CF_rule.2.1 113 = .ok (.new 9, 3) := by decide +kernel
theorem d_CF_rule_116 : decode Y_CF_rule.2.1 116 = .ok (.dup, 1) := by decide +kernel
theorem d_CF_rule_117 : decode Y_CF_rule.2.1 117 = .ok (.aload_n 0, 1) := by decide +kernel
theorem d_CF_rule_118 : decode Y_CF_rule.2.1 118 = .ok (.getfield 23, 3) := by decide +kernel
theorem d_CF_rule_121 : decode Y_CF_rule.2.1 121 = .ok (.invokevirtual 105, 3) := by decide +kernel
theorem d_CF_rule_124 : decode Y_CF_rule.2.1 124 = .ok (.iload_n 1, 1) := by decide +kernel
theorem d_CF_rule_125 : decode Y_CF_rule.2.1 125 = .ok (.iload_n 2, 1) := by decide +kernel
theorem d_CF_rule_126 : decode Y_CF_rule.2.1 126 = .ok (.iload_n 3, 1) := by decide +kernel
theorem d_CF_rule_127 : decode Y_CF_rule.2.1 127 = .ok (.invokespecial 11, 3) := by decide +kernel
theorem d_CF_rule_130 : decode Y_CF_rule.2.1 130 = .ok (.invokevirtual 116, 3) := by decide +kernel
theorem d_CF_rule_133 : decode Y_CF_rule.2.1 133 = .ok (.pop, 1) := by decide +kernel
theorem d_CF_rule_134 : decode Y_CF_rule.2.1 134 = .ok (.aload_n 0, 1) := by decide +kernel
theorem d_CF_rule_135 : decode Y_CF_rule.2.1 135 = .ok (.invokevirtual 119, 3) := by decide +kernel
theorem d_CF_rule_138 : decode Y_CF_rule.2.1 138 = .ok (.aload_n 0, 1) := by decide +kernel
theorem d_CF_rule_139 : decode Y_CF_rule.2.1 139 = .ok (.getfield 23, 3) := by decide +kernel
theorem d_CF_rule_142 : decode Y_CF_rule.2.1 142 = .ok (.invokevirtual 105, 3) := by decide +kernel
theorem d_CF_rule_145 : decode Y_CF_rule.2.1 145 = .ok (.iconst 1, 1) := by decide +kernel
theorem d_CF_rule_146 : decode Y_CF_rule.2.1 146 = .ok (.isub, 1) := by decide +kernel
theorem d_CF_rule_147 : decode Y_CF_rule.2.1 147 = .ok (.ireturn, 1) := by decide +kernel
theorem d_Al_add_0 : decode Y_Al_add.2.1 0 = .ok (.aload_n 0, 1) := by decide +kernel
theorem d_Al_add_1 : decode Y_Al_add.2.1 1 = .ok (.dup, 1) := by decide +kernel
theorem d_Al_add_2 : decode Y_Al_add.2.1 2 = .ok (.getfield 63, 3) := by decide +kernel
theorem d_Al_add_5 : decode Y_Al_add.2.1 5 = .ok (.iconst 1, 1) := by decide +kernel
theorem d_Al_add_6 : decode Y_Al_add.2.1 6 = .ok (.iadd, 1) := by decide +kernel
theorem d_Al_add_7 : decode Y_Al_add.2.1 7 = .ok (.putfield 63, 3) := by decide +kernel
theorem d_Al_add_10 : decode Y_Al_add.2.1 10 = .ok (.aload_n 0, 1) := by decide +kernel
theorem d_Al_add_11 : decode Y_Al_add.2.1 11 = .ok (.aload_n 1, 1) := by decide +kernel
theorem d_Al_add_12 : decode Y_Al_add.2.1 12 = .ok (.aload_n 0, 1) := by decide +kernel
theorem d_Al_add_13 : decode Y_Al_add.2.1 13 = .ok (.getfield 9, 3) := by decide +kernel
theorem d_Al_add_16 : decode Y_Al_add.2.1 16 = .ok (.aload_n 0, 1) := by decide +kernel
theorem d_Al_add_17 : decode Y_Al_add.2.1 17 = .ok (.getfield 48, 3) := by decide +kernel
theorem d_Al_add_20 : decode Y_Al_add.2.1 20 = .ok (.invokevirtual 131, 3) := by decide +kernel
theorem d_Al_add_23 : decode Y_Al_add.2.1 23 = .ok (.iconst 1, 1) := by decide +kernel
theorem d_Al_add_24 : decode Y_Al_add.2.1 24 = .ok (.ireturn, 1) := by decide +kernel
theorem d_Al_add2_0 : decode Y_Al_add2.2.1 0 = .ok (.iload_n 3, 1) := by decide +kernel
theorem d_Al_add2_1 : decode Y_Al_add2.2.1 1 = .ok (.aload_n 2, 1) := by decide +kernel
theorem d_Al_add2_2 : decode Y_Al_add2.2.1 2 = .ok (.arraylength, 1) := by decide +kernel
theorem d_Al_add2_3 : decode Y_Al_add2.2.1 3 = .ok (.if_icmp .ne 8, 3) := by decide +kernel
theorem d_Al_add2_6 : decode Y_Al_add2.2.1 6 = .ok (.aload_n 0, 1) := by decide +kernel
theorem d_Al_add2_7 : decode Y_Al_add2.2.1 7 = .ok (.invokevirtual 129, 3) := by decide +kernel
theorem d_Al_add2_10 : decode Y_Al_add2.2.1 10 = .ok (.astore_n 2, 1) := by decide +kernel
theorem d_Al_add2_11 : decode Y_Al_add2.2.1 11 = .ok (.aload_n 2, 1) := by decide +kernel
theorem d_Al_add2_12 : decode Y_Al_add2.2.1 12 = .ok (.iload_n 3, 1) := by decide +kernel
theorem d_Al_add2_13 : decode Y_Al_add2.2.1 13 = .ok (.aload_n 1, 1) := by decide +kernel
theorem d_Al_add2_14 : decode Y_Al_add2.2.1 14 = .ok (.aastore, 1) := by decide +kernel
theorem d_Al_add2_15 : decode Y_Al_add2.2.1 15 = .ok (.aload_n 0, 1) := by decide +kernel
theorem d_Al_add2_16 : decode Y_Al_add2.2.1 16 = .ok (.iload_n 3, 1) := by decide +kernel
theorem d_Al_add2_17 : decode Y_Al_add2.2.1 17 = .ok (.iconst 1, 1) := by decide +kernel
theorem d_Al_add2_18 : decode Y_Al_add2.2.1 18 = .ok (.iadd, 1) := by decide +kernel
theorem d_Al_add2_19 : decode Y_Al_add2.2.1 19 = .ok (.putfield 48, 3) := by decide +kernel
theorem d_Al_add2_22 : decode Y_Al_add2.2.1 22 = .ok (.return_, 1) := by decide +kernel
theorem d_Ma_min_0 : decode Y_Ma_min.2.1 0 = .ok (.iload_n 0, 1) := by decide +kernel
theorem d_Ma_min_1 : decode Y_Ma_min.2.1 1 = .ok (.iload_n 1, 1) := by decide +kernel
theorem d_Ma_min_2 : decode Y_Ma_min.2.1 2 = .ok (.if_icmp .gt 7, 3) := by decide +kernel
theorem d_Ma_min_5 : decode Y_Ma_min.2.1 5 = .ok (.iload_n 0, 1) := by decide +kernel
theorem d_Ma_min_6 : decode Y_Ma_min.2.1 6 = .ok (.goto 4, 3) := by decide +kernel
theorem d_Ma_min_9 : decode Y_Ma_min.2.1 9 = .ok (.iload_n 1, 1) := by decide +kernel
theorem d_Ma_min_10 : decode Y_Ma_min.2.1 10 = .ok (.ireturn, 1) := by decide +kernel
theorem d_CF_restart_0 : decode Y_CF_restart.2.1 0 = .ok (.aload_n 0, 1) := by decide +kernel
theorem d_CF_restart_1 : decode Y_CF_restart.2.1 1 = .ok (.getfield 29, 3) := by decide +kernel
theorem d_CF_restart_4 : decode Y_CF_restart.2.1 4 = .ok (.iconst 0, 1) := by decide +kernel
theorem d_CF_restart_5 : decode Y_CF_restart.2.1 5 = .ok (.aaload, 1) := by decide +kernel
theorem d_CF_restart_6 : decode Y_CF_restart.2.1 6 = .ok (.invokevirtual 74, 3) := by decide +kernel
theorem d_CF_restart_9 : decode Y_CF_restart.2.1 9 = .ok (.aload_n 0, 1) := by decide +kernel
theorem d_CF_restart_10 : decode Y_CF_restart.2.1 10 = .ok (.getfield 29, 3) := by decide +kernel
theorem d_CF_restart_13 : decode Y_CF_restart.2.1 13 = .ok (.iconst 0, 1) := by decide +kernel
theorem d_CF_restart_14 : decode Y_CF_restart.2.1 14 = .ok (.aaload, 1) := by decide +kernel
theorem d_CF_restart_15 : decode Y_CF_restart.2.1 15 = .ok (.iconst (-1), 1) := by decide +kernel
theorem d_CF_restart_16 : decode Y_CF_restart.2.1 16 = .ok (.iconst 0, 1) := by decide +kernel
theorem d_CF_restart_17 : decode Y_CF_restart.2.1 17 = .ok (.iconst 0, 1) := by decide +kernel
theorem d_CF_restart_18 : decode Y_CF_restart.2.1 18 = .ok (.invokestatic 77, 3) := by decide +kernel
theorem d_CF_restart_21 : decode Y_CF_restart.2.1 21 = .ok (.invokevirtual 81, 3) := by decide +kernel
theorem d_CF_restart_24 : decode Y_CF_restart.2.1 24 = .ok (.aload_n 0, 1) := by decide +kernel
theorem d_CF_restart_25 : decode Y_CF_restart.2.1 25 = .ok (.iconst 0, 1) := by decide +kernel
theorem d_CF_restart_26 : decode Y_CF_restart.2.1 26 = .ok (.invokevirtual 84, 3) := by decide +kernel
theorem d_CF_restart_29 : decode Y_CF_restart.2.1 29 = .ok (.aload_n 0, 1) := by decide +kernel
theorem d_CF_restart_30 : decode Y_CF_restart.2.1 30 = .ok (.getfield 39, 3) := by decide +kernel
theorem d_CF_restart_33 : decode Y_CF_restart.2.1 33 = .ok (.iconst 0, 1) := by decide +kernel
theorem d_CF_restart_34 : decode Y_CF_restart.2.1 34 = .ok (.aaload, 1) := by decide +kernel
theorem d_CF_restart_35 : decode Y_CF_restart.2.1 35 = .ok (.invokevirtual 91, 3) := by decide +kernel
theorem d_CF_restart_38 : decode Y_CF_restart.2.1 38 = .ok (.aload_n 0, 1) := by decide +kernel
theorem d_CF_restart_39 : decode Y_CF_restart.2.1 39 = .ok (.iconst 0, 1) := by decide +kernel
theorem d_CF_restart_40 : decode Y_CF_restart.2.1 40 = .ok (.invokevirtual 92, 3) := by decide +kernel
theorem d_CF_restart_43 : decode Y_CF_restart.2.1 43 = .ok (.return_, 1) := by decide +kernel
theorem d_Co_clear_0 : decode Y_Co_clear.2.1 0 = .ok (.iconst 0, 1) := by decide +kernel
theorem d_Co_clear_1 : decode Y_Co_clear.2.1 1 = .ok (.istore_n 1, 1) := by decide +kernel
theorem d_Co_clear_2 : decode Y_Co_clear.2.1 2 = .ok (.iload_n 1, 1) := by decide +kernel
theorem d_Co_clear_3 : decode Y_Co_clear.2.1 3 = .ok (.aload_n 0, 1) := by decide +kernel
theorem d_Co_clear_4 : decode Y_Co_clear.2.1 4 = .ok (.getfield 9, 3) := by decide +kernel
theorem d_Co_clear_7 : decode Y_Co_clear.2.1 7 = .ok (.arraylength, 1) := by decide +kernel
theorem d_Co_clear_8 : decode Y_Co_clear.2.1 8 = .ok (.if_icmp .ge 38, 3) := by decide +kernel
theorem d_Co_clear_11 : decode Y_Co_clear.2.1 11 = .ok (.aload_n 0, 1) := by decide +kernel
theorem d_Co_clear_12 : decode Y_Co_clear.2.1 12 = .ok (.getfield 9, 3) := by decide +kernel
theorem d_Co_clear_15 : decode Y_Co_clear.2.1 15 = .ok (.iload_n 1, 1) := by decide +kernel
theorem d_Co_clear_16 : decode Y_Co_clear.2.1 16 = .ok (.iconst 0, 1) := by decide +kernel
theorem d_Co_clear_17 : decode Y_Co_clear.2.1 17 = .ok (.iastore, 1) := by decide +kernel
theorem d_Co_clear_18 : decode Y_Co_clear.2.1 18 = .ok (.iconst 0, 1) := by decide +kernel
theorem d_Co_clear_19 : decode Y_Co_clear.2.1 19 = .ok (.istore_n 2, 1) := by decide +kernel
theorem d_Co_clear_20 : decode Y_Co_clear.2.1 20 = .ok (.iload_n 2, 1) := by decide +kernel
theorem d_Co_clear_21 : decode Y_Co_clear.2.1 21 = .ok (.iconst 5, 1) := by decide +kernel
theorem d_Co_clear_22 : decode Y_Co_clear.2.1 22 = .ok (.if_icmp .ge 18, 3) := by decide +kernel
theorem d_Co_clear_25 : decode Y_Co_clear.2.1 25 = .ok (.aload_n 0, 1) := by decide +kernel
theorem d_Co_clear_26 : decode Y_Co_clear.2.1 26 = .ok (.getfield 17, 3) := by decide +kernel
theorem d_Co_clear_29 : decode Y_Co_clear.2.1 29 = .ok (.iload_n 1, 1) := by decide +kernel
theorem d_Co_clear_30 : decode Y_Co_clear.2.1 30 = .ok (.aaload, 1) := by decide +kernel
theorem d_Co_clear_31 : decode Y_Co_clear.2.1 31 = .ok (.iload_n 2, 1) := by decide +kernel
theorem d_Co_clear_32 : decode Y_Co_clear.2.1 32 = .ok (.lconst 0, 1) := by decide +kernel
theorem d_Co_clear_33 : decode Y_Co_clear.2.1 33 = .ok (.lastore, 1) := by decide +kernel
theorem d_Co_clear_34 : decode Y_Co_clear.2.1 34 = .ok (.iinc 2 1, 3) := by decide +kernel
theorem d_Co_clear_37 : decode Y_Co_clear.2.1 37 = .ok (.goto (-17), 3) := by decide +kernel
theorem d_Co_clear_40 : decode Y_Co_clear.2.1 40 = .ok (.iinc 1 1, 3) := by decide +kernel
theorem d_Co_clear_43 : decode Y_Co_clear.2.1 43 = .ok (.goto (-41), 3) := by decide +kernel
theorem d_Co_clear_46 : decode Y_Co_clear.2.1 46 = .ok (.return_, 1) := by decide +kernel
theorem d_CF_grow_0 : decode Y_CF_grow.2.1 0 = .ok (.aload_n 0, 1) := by decide +kernel
theorem d_CF_grow_1 : decode Y_CF_grow.2.1 1 = .ok (.getfield 39, 3) := by decide +kernel
theorem d_CF_grow_4 : decode Y_CF_grow.2.1 4 = .ok (.aload_n 0, 1) := by decide +kernel
theorem d_CF_grow_5 : decode Y_CF_grow.2.1 5 = .ok (.getfield 109, 3) := by decide +kernel
theorem d_CF_grow_8 : decode Y_CF_grow.2.1 8 = .ok (.aaload, 1) := by decide +kernel
theorem d_CF_grow_9 : decode Y_CF_grow.2.1 9 = .ok (.astore_n 2, 1) := by decide +kernel
theorem d_CF_grow_10 : decode Y_CF_grow.2.1 10 = .ok (.iconst 1, 1) := by decide +kernel
theorem d_CF_grow_11 : decode Y_CF_grow.2.1 11 = .ok (.istore_n 3, 1) := by decide +kernel
theorem d_CF_grow_12 : decode Y_CF_grow.2.1 12 = .ok (.iload_n 3, 1) := by decide +kernel
theorem d_CF_grow_13 : decode Y_CF_grow.2.1 13 = .ok (.ifCond .eq 66, 3) := by decide +kernel
theorem d_CF_grow_16 : decode Y_CF_grow.2.1 16 = .ok (.iconst 0, 1) := by decide +kernel
theorem d_CF_grow_17 : decode Y_CF_grow.2.1 17 = .ok (.istore_n 3, 1) := by decide +kernel
theorem d_CF_grow_18 : decode Y_CF_grow.2.1 18 = .ok (.iconst 0, 1) := by decide +kernel
theorem d_CF_grow_19 : decode Y_CF_grow.2.1 19 = .ok (.istore 4, 2) := by decide +kernel
theorem d_CF_grow_21 : decode Y_CF_grow.2.1 21 = .ok (.iload 4, 2) := by decide +kernel
theorem d_CF_grow_23 : decode Y_CF_grow.2.1 23 = .ok (.iconst 5, 1) := by decide +kernel
theorem d_CF_grow_24 : decode Y_CF_grow.2.1 24 = .ok (.if_icmp .ge 52, 3) := by decide +kernel
theorem d_CF_grow_27 : decode Y_CF_grow.2.1 27 = .ok (.aload_n 2, 1) := by decide +kernel
theorem d_CF_grow_28 : decode Y_CF_grow.2.1 28 = .ok (.getfield 178, 3) := by decide +kernel
theorem d_CF_grow_31 : decode Y_CF_grow.2.1 31 = .ok (.iload_n 1, 1) := by decide +kernel
theorem d_CF_grow_32 : decode Y_CF_grow.2.1 32 = .ok (.iaload, 1) := by decide +kernel
theorem d_CF_grow_33 : decode Y_CF_grow.2.1 33 = .ok (.iload 4, 2) := by decide +kernel
theorem d_CF_grow_35 : decode Y_CF_grow.2.1 35 = .ok (.ishr, 1) := by decide +kernel
theorem d_CF_grow_36 : decode Y_CF_grow.2.1 36 = .ok (.iconst 1, 1) := by decide +kernel
theorem d_CF_grow_37 : decode Y_CF_grow.2.1 37 = .ok (.iand, 1) := by decide +kernel
theorem d_CF_grow_38 : decode Y_CF_grow.2.1 38 = .ok (.ifCond .ne 32, 3) := by decide +kernel
theorem d_CF_grow_41 : decode Y_CF_grow.2.1 41 = .ok (.aload_n 0, 1) := by decide +kernel
theorem d_CF_grow_42 : decode Y_CF_grow.2.1 42 = .ok (.iload 4, 2) := by decide +kernel
theorem d_CF_grow_44 : decode Y_CF_grow.2.1 44 = .ok (.iload_n 1, 1) := by decide +kernel
theorem d_CF_grow_45 : decode Y_CF_grow.2.1 45 = .ok (.aload_n 0, 1) := by decide +kernel
theorem d_CF_grow_46 : decode Y_CF_grow.2.1 46 = .ok (.getfield 109, 3) := by decide +kernel
theorem d_CF_grow_49 : decode Y_CF_grow.2.1 49 = .ok (.invokevirtual 223, 3) := by decide +kernel
theorem d_CF_grow_52 : decode Y_CF_grow.2.1 52 = .ok (.ifCond .eq 18, 3) := by decide +kernel
theorem d_CF_grow_55 : decode Y_CF_grow.2.1 55 = .ok (.aload_n 2, 1) := by decide +kernel
theorem d_CF_grow_56 : decode Y_CF_grow.2.1 56 = .ok (.getfield 178, 3) := by decide +kernel
theorem d_CF_grow_59 : decode Y_CF_grow.2.1 59 = .ok (.iload_n 1, 1) := by decide +kernel
theorem d_CF_grow_60 : decode Y_CF_grow.2.1 60 = .ok (.dup2, 1) := by decide +kernel
theorem d_CF_grow_61 : decode Y_CF_grow.2.1 61 = .ok (.iaload, 1) := by decide +kernel
theorem d_CF_grow_62 : decode Y_CF_grow.2.1 62 = .ok (.iconst 1, 1) := by decide +kernel
theorem d_CF_grow_63 : decode Y_CF_grow.2.1 63 = .ok (.iload 4, 2) := by decide +kernel
theorem d_CF_grow_65 : decode Y_CF_grow.2.1 65 = .ok (.ishl, 1) := by decide +kernel
theorem d_CF_grow_66 : decode Y_CF_grow.2.1 66 = .ok (.ior, 1) := by decide +kernel
theorem d_CF_grow_67 : decode Y_CF_grow.2.1 67 = .ok (.iastore, 1) := by decide +kernel
theorem d_CF_grow_68 : decode Y_CF_grow.2.1 68 = .ok (.iconst 1, 1) := by decide +kernel
theorem d_CF_grow_69 : decode Y_CF_grow.2.1 69 = .ok (.istore_n 3, 1) := by decide +kernel
theorem d_CF_grow_70 : decode Y_CF_grow.2.1 70 = .ok (.iinc 4 1, 3) := by decide +kernel
theorem d_CF_grow_73 : decode Y_CF_grow.2.1 73 = .ok (.goto (-52), 3) := by decide +kernel
theorem d_CF_grow_76 : decode Y_CF_grow.2.1 76 = .ok (.goto (-64), 3) := by decide +kernel
theorem d_CF_grow_79 : decode Y_CF_grow.2.1 79 = .ok (.iconst 0, 1) := by decide +kernel
theorem d_CF_grow_80 : decode Y_CF_grow.2.1 80 = .ok (.istore 4, 2) := by decide +kernel
theorem d_CF_grow_82 : decode Y_CF_grow.2.1 82 = .ok (.iload 4, 2) := by decide +kernel
theorem d_CF_grow_84 : decode Y_CF_grow.2.1 84 = .ok (.iconst 5, 1) := by decide +kernel
theorem d_CF_grow_85 : decode Y_CF_grow.2.1 85 = .ok (.if_icmp .ge 27, 3) := by decide +kernel
theorem d_CF_grow_88 : decode Y_CF_grow.2.1 88 = .ok (.aload_n 0, 1) := by decide +kernel
theorem d_CF_grow_89 : decode Y_CF_grow.2.1 89 = .ok (.getfield 60, 3) := by decide +kernel
theorem d_CF_grow_92 : decode Y_CF_grow.2.1 92 = .ok (.iload 4, 2) := by decide +kernel
theorem d_CF_grow_94 : decode Y_CF_grow.2.1 94 = .ok (.aload_n 0, 1) := by decide +kernel
theorem d_CF_grow_95 : decode Y_CF_grow.2.1 95 = .ok (.iload 4, 2) := by decide +kernel
theorem d_CF_grow_97 : decode Y_CF_grow.2.1 97 = .ok (.iload_n 1, 1) := by decide +kernel
theorem d_CF_grow_98 : decode Y_CF_grow.2.1 98 = .ok (.aload_n 0, 1) := by decide +kernel
theorem d_CF_grow_99 : decode Y_CF_grow.2.1 99 = .ok (.getfield 109, 3) := by decide +kernel
theorem d_CF_grow_102 : decode Y_CF_grow.2.1 102 = .ok (.invokevirtual 227, 3) := by decide +kernel
theorem d_CF_grow_105 : decode Y_CF_grow.2.1 105 = .ok (.iastore, 1) := by decide +kernel
theorem d_CF_grow_106 : decode Y_CF_grow.2.1 106 = .ok (.iinc 4 1, 3) := by decide +kernel
theorem d_CF_grow_109 : decode Y_CF_grow.2.1 109 = .ok (.goto (-27), 3) := by decide +kernel
theorem d_CF_grow_112 : decode Y_CF_grow.2.1 112 = .ok (.iconst 0, 1) := by decide +kernel
theorem d_CF_grow_113 : decode Y_CF_grow.2.1 113 = .ok (.istore 4, 2) := by decide +kernel
theorem d_CF_grow_115 : decode Y_CF_grow.2.1 115 = .ok (.iload 4, 2) := by decide +kernel
theorem d_CF_grow_117 : decode Y_CF_grow.2.1 117 = .ok (.iconst 5, 1) := by decide +kernel
theorem d_CF_grow_118 : decode Y_CF_grow.2.1 118 = .ok (.if_icmp .ge 76, 3) := by decide +kernel
theorem d_CF_grow_121 : decode Y_CF_grow.2.1 121 = .ok (.iconst 0, 1) := by decide +kernel
theorem d_CF_grow_122 : decode Y_CF_grow.2.1 122 = .ok (.istore 5, 2) := by decide +kernel
theorem d_CF_grow_124 : decode Y_CF_grow.2.1 124 = .ok (.iload 5, 2) := by decide +kernel
theorem d_CF_grow_126 : decode Y_CF_grow.2.1 126 = .ok (.iconst 5, 1) := by decide +kernel
theorem d_CF_grow_127 : decode Y_CF_grow.2.1 127 = .ok (.if_icmp .ge 61, 3) := by decide +kernel
theorem d_CF_grow_130 : decode Y_CF_grow.2.1 130 = .ok (.iconst 0, 1) := by decide +kernel
theorem d_CF_grow_131 : decode Y_CF_grow.2.1 131 = .ok (.istore 6, 2) := by decide +kernel
theorem d_CF_grow_133 : decode Y_CF_grow.2.1 133 = .ok (.iload 6, 2) := by decide +kernel
theorem d_CF_grow_135 : decode Y_CF_grow.2.1 135 = .ok (.iconst 5, 1) := by decide +kernel
theorem d_CF_grow_136 : decode Y_CF_grow.2.1 136 = .ok (.if_icmp .ge 46, 3) := by decide +kernel
theorem d_CF_grow_139 : decode Y_CF_grow.2.1 139 = .ok (.aload_n 0, 1) := by decide +kernel
theorem d_CF_grow_140 : decode Y_CF_grow.2.1 140 = .ok (.getfield 60, 3) := by decide +kernel
theorem d_CF_grow_143 : decode Y_CF_grow.2.1 143 = .ok (.iload 5, 2) := by decide +kernel
theorem d_CF_grow_145 : decode Y_CF_grow.2.1 145 = .ok (.dup2, 1) := by decide +kernel
theorem d_CF_grow_146 : decode Y_CF_grow.2.1 146 = .ok (.iaload, 1) := by decide +kernel
theorem d_CF_grow_147 : decode Y_CF_grow.2.1 147 = .ok (.aload_n 0, 1) := by decide +kernel
theorem d_CF_grow_148 : decode Y_CF_grow.2.1 148 = .ok (.getfield 60, 3) := by decide +kernel
theorem d_CF_grow_151 : decode Y_CF_grow.2.1 151 = .ok (.iload 5, 2) := by decide +kernel
theorem d_CF_grow_153 : decode Y_CF_grow.2.1 153 = .ok (.iaload, 1) := by decide +kernel
theorem d_CF_grow_154 : decode Y_CF_grow.2.1 154 = .ok (.iload 6, 2) := by decide +kernel
theorem d_CF_grow_156 : decode Y_CF_grow.2.1 156 = .ok (.ishr, 1) := by decide +kernel
theorem d_CF_grow_157 : decode Y_CF_grow.2.1 157 = .ok (.iconst 1, 1) := by decide +kernel
theorem d_CF_grow_158 : decode Y_CF_grow.2.1 158 = .ok (.iand, 1) := by decide +kernel
theorem d_CF_grow_159 : decode Y_CF_grow.2.1 159 = .ok (.iconst 1, 1) := by decide +kernel
theorem d_CF_grow_160 : decode Y_CF_grow.2.1 160 = .ok (.if_icmp .ne 13, 3) := by decide +kernel
theorem d_CF_grow_163 : decode Y_CF_grow.2.1 163 = .ok (.aload_n 0, 1) := by decide +kernel
theorem d_CF_grow_164 : decode Y_CF_grow.2.1 164 = .ok (.getfield 60, 3) := by decide +kernel
theorem d_CF_grow_167 : decode Y_CF_grow.2.1 167 = .ok (.iload 6, 2) := by decide +kernel
theorem d_CF_grow_169 : decode Y_CF_grow.2.1 169 = .ok (.iaload, 1) := by decide +kernel
theorem d_CF_grow_170 : decode Y_CF_grow.2.1 170 = .ok (.goto 4, 3) := by decide +kernel
theorem d_CF_grow_173 : decode Y_CF_grow.2.1 173 = .ok (.iconst 0, 1) := by decide +kernel
theorem d_CF_grow_174 : decode Y_CF_grow.2.1 174 = .ok (.ior, 1) := by decide +kernel
theorem d_CF_grow_175 : decode Y_CF_grow.2.1 175 = .ok (.iastore, 1) := by decide +kernel
theorem d_CF_grow_176 : decode Y_CF_grow.2.1 176 = .ok (.iinc 6 1, 3) := by decide +kernel
theorem d_CF_grow_179 : decode Y_CF_grow.2.1 179 = .ok (.goto (-46), 3) := by decide +kernel
theorem d_CF_grow_182 : decode Y_CF_grow.2.1 182 = .ok (.iinc 5 1, 3) := by decide +kernel
theorem d_CF_grow_185 : decode Y_CF_grow.2.1 185 = .ok (.goto (-61), 3) := by decide +kernel
theorem d_CF_grow_188 : decode Y_CF_grow.2.1 188 = .ok (.iinc 4 1, 3) := by decide +kernel
theorem d_CF_grow_191 : decode Y_CF_grow.2.1 191 = .ok (.goto (-76), 3) := by decide +kernel
theorem d_CF_grow_194 : decode Y_CF_grow.2.1 194 = .ok (.aload_n 0, 1) := by decide +kernel
theorem d_CF_grow_195 : decode Y_CF_grow.2.1 195 = .ok (.aload_n 2, 1) := by decide +kernel
theorem d_CF_grow_196 : decode Y_CF_grow.2.1 196 = .ok (.getfield 195, 3) := by decide +kernel
theorem d_CF_grow_199 : decode Y_CF_grow.2.1 199 = .ok (.iload_n 1, 1) := by decide +kernel
theorem d_CF_grow_200 : decode Y_CF_grow.2.1 200 = .ok (.aaload, 1) := by decide +kernel
theorem d_CF_grow_201 : decode Y_CF_grow.2.1 201 = .ok (.iload_n 1, 1) := by decide +kernel
theorem d_CF_grow_202 : decode Y_CF_grow.2.1 202 = .ok (.invokevirtual 230, 3) := by decide +kernel
theorem d_CF_grow_205 : decode Y_CF_grow.2.1 205 = .ok (.return_, 1) := by decide +kernel
theorem d_CF_hasWay_0 : decode Y_CF_hasWay.2.1 0 = .ok (.iconst 0, 1) := by decide +kernel
theorem d_CF_hasWay_1 : decode Y_CF_hasWay.2.1 1 = .ok (.istore 4, 2) := by decide +kernel
theorem d_CF_hasWay_3 : decode Y_CF_hasWay.2.1 3 = .ok (.iload 4, 2) := by decide +kernel
theorem d_CF_hasWay_5 : decode Y_CF_hasWay.2.1 5 = .ok (.aload_n 0, 1) := by decide +kernel
theorem d_CF_hasWay_6 : decode Y_CF_hasWay.2.1 6 = .ok (.getfield 23, 3) := by decide +kernel
theorem d_CF_hasWay_9 : decode Y_CF_hasWay.2.1 9 = .ok (.invokevirtual 105, 3) := by decide +kernel
theorem d_CF_hasWay_12 : decode Y_CF_hasWay.2.1 12 = .ok (.if_icmp .ge 62, 3) := by decide +kernel
theorem d_CF_hasWay_15 : decode Y_CF_hasWay.2.1 15 = .ok (.aload_n 0, 1) := by decide +kernel
theorem d_CF_hasWay_16 : decode Y_CF_hasWay.2.1 16 = .ok (.getfield 23, 3) := by decide +kernel
theorem d_CF_hasWay_19 : decode Y_CF_hasWay.2.1 19 = .ok (.iload 4, 2) := by decide +kernel
theorem d_CF_hasWay_21 : decode Y_CF_hasWay.2.1 21 = .ok (.invokevirtual 87, 3) := by decide +kernel
theorem d_CF_hasWay_24 : decode Y_CF_hasWay.2.1 24 = .ok (.checkcast 9, 3) := by decide +kernel
theorem d_CF_hasWay_27 : decode Y_CF_hasWay.2.1 27 = .ok (.getfield 144, 3) := by decide +kernel
theorem d_CF_hasWay_30 : decode Y_CF_hasWay.2.1 30 = .ok (.iload_n 1, 1) := by decide +kernel
theorem d_CF_hasWay_31 : decode Y_CF_hasWay.2.1 31 = .ok (.if_icmp .ne 37, 3) := by decide +kernel
theorem d_CF_hasWay_34 : decode Y_CF_hasWay.2.1 34 = .ok (.aload_n 0, 1) := by decide +kernel
theorem d_CF_hasWay_35 : decode Y_CF_hasWay.2.1 35 = .ok (.getfield 46, 3) := by decide +kernel
theorem d_CF_hasWay_38 : decode Y_CF_hasWay.2.1 38 = .ok (.aload_n 0, 1) := by decide +kernel
theorem d_CF_hasWay_39 : decode Y_CF_hasWay.2.1 39 = .ok (.aload_n 0, 1) := by decide +kernel
theorem d_CF_hasWay_40 : decode Y_CF_hasWay.2.1 40 = .ok (.getfield 23, 3) := by decide +kernel
theorem d_CF_hasWay_43 : decode Y_CF_hasWay.2.1 43 = .ok (.iload 4, 2) := by decide +kernel
theorem d_CF_hasWay_45 : decode Y_CF_hasWay.2.1 45 = .ok (.invokevirtual 87, 3) := by decide +kernel
theorem d_CF_hasWay_48 : decode Y_CF_hasWay.2.1 48 = .ok (.checkcast 9, 3) := by decide +kernel
theorem d_CF_hasWay_51 : decode Y_CF_hasWay.2.1 51 = .ok (.iload_n 2, 1) := by decide +kernel
theorem d_CF_hasWay_52 : decode Y_CF_hasWay.2.1 52 = .ok (.iload_n 3, 1) := by decide +kernel
theorem d_CF_hasWay_53 : decode Y_CF_hasWay.2.1 53 = .ok (.invokevirtual 181, 3) := by decide +kernel
theorem d_CF_hasWay_56 : decode Y_CF_hasWay.2.1 56 = .ok (.aload_n 0, 1) := by decide +kernel
theorem d_CF_hasWay_57 : decode Y_CF_hasWay.2.1 57 = .ok (.getfield 46, 3) := by decide +kernel
theorem d_CF_hasWay_60 : decode Y_CF_hasWay.2.1 60 = .ok (.invokevirtual 185, 3) := by decide +kernel
theorem d_CF_hasWay_63 : decode Y_CF_hasWay.2.1 63 = .ok (.ifCond .eq 5, 3) := by decide +kernel
theorem d_CF_hasWay_66 : decode Y_CF_hasWay.2.1 66 = .ok (.iconst 1, 1) := by decide +kernel
theorem d_CF_hasWay_67 : decode Y_CF_hasWay.2.1 67 = .ok (.ireturn, 1) := by decide +kernel
theorem d_CF_hasWay_68 : decode Y_CF_hasWay.2.1 68 = .ok (.iinc 4 1, 3) := by decide +kernel
theorem d_CF_hasWay_71 : decode Y_CF_hasWay.2.1 71 = .ok (.goto (-68), 3) := by decide +kernel
theorem d_CF_hasWay_74 : decode Y_CF_hasWay.2.1 74 = .ok (.iconst 0, 1) := by decide +kernel
theorem d_CF_hasWay_75 : decode Y_CF_hasWay.2.1 75 = .ok (.ireturn, 1) := by decide +kernel
theorem d_CF_nearOf_0 : decode Y_CF_nearOf.2.1 0 = .ok (.iconst 0, 1) := by decide +kernel
theorem d_CF_nearOf_1 : decode Y_CF_nearOf.2.1 1 = .ok (.istore 4, 2) := by decide +kernel
theorem d_CF_nearOf_3 : decode Y_CF_nearOf.2.1 3 = .ok (.iconst 0, 1) := by decide +kernel
theorem d_CF_nearOf_4 : decode Y_CF_nearOf.2.1 4 = .ok (.istore 5, 2) := by decide +kernel
theorem d_CF_nearOf_6 : decode Y_CF_nearOf.2.1 6 = .ok (.iload 5, 2) := by decide +kernel
theorem d_CF_nearOf_8 : decode Y_CF_nearOf.2.1 8 = .ok (.aload_n 0, 1) := by decide +kernel
theorem d_CF_nearOf_9 : decode Y_CF_nearOf.2.1 9 = .ok (.getfield 23, 3) := by decide +kernel
theorem d_CF_nearOf_12 : decode Y_CF_nearOf.2.1 12 = .ok (.invokevirtual 105, 3) := by decide +kernel
theorem d_CF_nearOf_15 : decode Y_CF_nearOf.2.1 15 = .ok (.if_icmp .ge 181, 3) := by decide +kernel
theorem d_CF_nearOf_18 : decode Y_CF_nearOf.2.1 18 = .ok (.aload_n 0, 1) := by decide +kernel
theorem d_CF_nearOf_19 : decode Y_CF_nearOf.2.1 19 = .ok (.getfield 23, 3) := by decide +kernel
theorem d_CF_nearOf_22 : decode Y_CF_nearOf.2.1 22 = .ok (.iload 5, 2) := by decide +kernel
theorem d_CF_nearOf_24 : decode Y_CF_nearOf.2.1 24 = .ok (.invokevirtual 87, 3) := by decide +kernel
theorem d_CF_nearOf_27 : decode Y_CF_nearOf.2.1 27 = .ok (.checkcast 9, 3) := by decide +kernel
theorem d_CF_nearOf_30 : decode Y_CF_nearOf.2.1 30 = .ok (.astore 6, 2) := by decide +kernel
theorem d_CF_nearOf_32 : decode Y_CF_nearOf.2.1 32 = .ok (.aload 6, 2) := by decide +kernel
theorem d_CF_nearOf_34 : decode Y_CF_nearOf.2.1 34 = .ok (.getfield 144, 3) := by decide +kernel
theorem d_CF_nearOf_37 : decode Y_CF_nearOf.2.1 37 = .ok (.iload_n 1, 1) := by decide +kernel
theorem d_CF_nearOf_38 : decode Y_CF_nearOf.2.1 38 = .ok (.if_icmp .eq 6, 3) := by decide +kernel
theorem d_CF_nearOf_41 : decode Y_CF_nearOf.2.1 41 = .ok (.goto 149, 3) := by decide +kernel
theorem d_CF_nearOf_44 : decode Y_CF_nearOf.2.1 44 = .ok (.aload_n 0, 1) := by decide +kernel
theorem d_CF_nearOf_45 : decode Y_CF_nearOf.2.1 45 = .ok (.getfield 46, 3) := by decide +kernel
theorem d_CF_nearOf_48 : decode Y_CF_nearOf.2.1 48 = .ok (.aload_n 0, 1) := by decide +kernel
theorem d_CF_nearOf_49 : decode Y_CF_nearOf.2.1 49 = .ok (.aload 6, 2) := by decide +kernel
theorem d_CF_nearOf_51 : decode Y_CF_nearOf.2.1 51 = .ok (.iload_n 2, 1) := by decide +kernel
theorem d_CF_nearOf_52 : decode Y_CF_nearOf.2.1 52 = .ok (.iload_n 3, 1) := by decide +kernel
theorem d_CF_nearOf_53 : decode Y_CF_nearOf.2.1 53 = .ok (.invokevirtual 181, 3) := by decide +kernel
theorem d_CF_nearOf_56 : decode Y_CF_nearOf.2.1 56 = .ok (.aload_n 0, 1) := by decide +kernel
theorem d_CF_nearOf_57 : decode Y_CF_nearOf.2.1 57 = .ok (.getfield 46, 3) := by decide +kernel
theorem d_CF_nearOf_60 : decode Y_CF_nearOf.2.1 60 = .ok (.invokevirtual 185, 3) := by decide +kernel
theorem d_CF_nearOf_63 : decode Y_CF_nearOf.2.1 63 = .ok (.ifCond .eq 127, 3) := by decide +kernel
theorem d_CF_nearOf_66 : decode Y_CF_nearOf.2.1 66 = .ok (.iconst 0, 1) := by decide +kernel
theorem d_CF_nearOf_67 : decode Y_CF_nearOf.2.1 67 = .ok (.istore 7, 2) := by decide +kernel
theorem d_CF_nearOf_69 : decode Y_CF_nearOf.2.1 69 = .ok (.iload 7, 2) := by decide +kernel
theorem d_CF_nearOf_71 : decode Y_CF_nearOf.2.1 71 = .ok (.aload 6, 2) := by decide +kernel
theorem d_CF_nearOf_73 : decode Y_CF_nearOf.2.1 73 = .ok (.getfield 189, 3) := by decide +kernel
theorem d_CF_nearOf_76 : decode Y_CF_nearOf.2.1 76 = .ok (.arraylength, 1) := by decide +kernel
theorem d_CF_nearOf_77 : decode Y_CF_nearOf.2.1 77 = .ok (.if_icmp .ge 110, 3) := by decide +kernel
theorem d_CF_nearOf_80 : decode Y_CF_nearOf.2.1 80 = .ok (.aload 6, 2) := by decide +kernel
theorem d_CF_nearOf_82 : decode Y_CF_nearOf.2.1 82 = .ok (.getfield 189, 3) := by decide +kernel
theorem d_CF_nearOf_85 : decode Y_CF_nearOf.2.1 85 = .ok (.iload 7, 2) := by decide +kernel
theorem d_CF_nearOf_87 : decode Y_CF_nearOf.2.1 87 = .ok (.iaload, 1) := by decide +kernel
theorem d_CF_nearOf_88 : decode Y_CF_nearOf.2.1 88 = .ok (.istore 8, 2) := by decide +kernel
theorem d_CF_nearOf_90 : decode Y_CF_nearOf.2.1 90 = .ok (.aload_n 0, 1) := by decide +kernel
theorem d_CF_nearOf_91 : decode Y_CF_nearOf.2.1 91 = .ok (.getfield 46, 3) := by decide +kernel
theorem d_CF_nearOf_94 : decode Y_CF_nearOf.2.1 94 = .ok (.getfield 192, 3) := by decide +kernel
theorem d_CF_nearOf_97 : decode Y_CF_nearOf.2.1 97 = .ok (.iload 7, 2) := by decide +kernel
theorem d_CF_nearOf_99 : decode Y_CF_nearOf.2.1 99 = .ok (.iaload, 1) := by decide +kernel
theorem d_CF_nearOf_100 : decode Y_CF_nearOf.2.1 100 = .ok (.istore 9, 2) := by decide +kernel
theorem d_CF_nearOf_102 : decode Y_CF_nearOf.2.1 102 = .ok (.aload_n 0, 1) := by decide +kernel
theorem d_CF_nearOf_103 : decode Y_CF_nearOf.2.1 103 = .ok (.getfield 46, 3) := by decide +kernel
theorem d_CF_nearOf_106 : decode Y_CF_nearOf.2.1 106 = .ok (.getfield 192, 3) := by decide +kernel
theorem d_CF_nearOf_109 : decode Y_CF_nearOf.2.1 109 = .ok (.iload 7, 2) := by decide +kernel
theorem d_CF_nearOf_111 : decode Y_CF_nearOf.2.1 111 = .ok (.iconst 1, 1) := by decide +kernel
theorem d_CF_nearOf_112 : decode Y_CF_nearOf.2.1 112 = .ok (.iadd, 1) := by decide +kernel
theorem d_CF_nearOf_113 : decode Y_CF_nearOf.2.1 113 = .ok (.iaload, 1) := by decide +kernel
theorem d_CF_nearOf_114 : decode Y_CF_nearOf.2.1 114 = .ok (.istore 10, 2) := by decide +kernel
theorem d_CF_nearOf_116 : decode Y_CF_nearOf.2.1 116 = .ok (.iload 8, 2) := by decide +kernel
theorem d_CF_nearOf_118 : decode Y_CF_nearOf.2.1 118 = .ok (.invokestatic 95, 3) := by decide +kernel
theorem d_CF_nearOf_121 : decode Y_CF_nearOf.2.1 121 = .ok (.ifCond .ne 6, 3) := by decide +kernel
theorem d_CF_nearOf_124 : decode Y_CF_nearOf.2.1 124 = .ok (.goto 57, 3) := by decide +kernel
theorem d_CF_nearOf_127 : decode Y_CF_nearOf.2.1 127 = .ok (.iload 9, 2) := by decide +kernel
theorem d_CF_nearOf_129 : decode Y_CF_nearOf.2.1 129 = .ok (.iload_n 2, 1) := by decide +kernel
theorem d_CF_nearOf_130 : decode Y_CF_nearOf.2.1 130 = .ok (.if_icmp .ne 21, 3) := by decide +kernel
theorem d_CF_nearOf_133 : decode Y_CF_nearOf.2.1 133 = .ok (.iload 10, 2) := by decide +kernel
theorem d_CF_nearOf_135 : decode Y_CF_nearOf.2.1 135 = .ok (.iload_n 3, 1) := by decide +kernel
theorem d_CF_nearOf_136 : decode Y_CF_nearOf.2.1 136 = .ok (.if_icmp .ne 15, 3) := by decide +kernel
theorem d_CF_nearOf_139 : decode Y_CF_nearOf.2.1 139 = .ok (.iload 4, 2) := by decide +kernel
theorem d_CF_nearOf_141 : decode Y_CF_nearOf.2.1 141 = .ok (.iconst 1, 1) := by decide +kernel
theorem d_CF_nearOf_142 : decode Y_CF_nearOf.2.1 142 = .ok (.iload 8, 2) := by decide +kernel
theorem d_CF_nearOf_144 : decode Y_CF_nearOf.2.1 144 = .ok (.ishl, 1) := by decide +kernel
theorem d_CF_nearOf_145 : decode Y_CF_nearOf.2.1 145 = .ok (.ior, 1) := by decide +kernel
theorem d_CF_nearOf_146 : decode Y_CF_nearOf.2.1 146 = .ok (.istore 4, 2) := by decide +kernel
theorem d_CF_nearOf_148 : decode Y_CF_nearOf.2.1 148 = .ok (.goto 33, 3) := by decide +kernel
theorem d_CF_nearOf_151 : decode Y_CF_nearOf.2.1 151 = .ok (.aload_n 0, 1) := by decide +kernel
theorem d_CF_nearOf_152 : decode Y_CF_nearOf.2.1 152 = .ok (.getfield 39, 3) := by decide +kernel
theorem d_CF_nearOf_155 : decode Y_CF_nearOf.2.1 155 = .ok (.iload 10, 2) := by decide +kernel
theorem d_CF_nearOf_157 : decode Y_CF_nearOf.2.1 157 = .ok (.aaload, 1) := by decide +kernel
theorem d_CF_nearOf_158 : decode Y_CF_nearOf.2.1 158 = .ok (.getfield 195, 3) := by decide +kernel
theorem d_CF_nearOf_161 : decode Y_CF_nearOf.2.1 161 = .ok (.iload 9, 2) := by decide +kernel
theorem d_CF_nearOf_163 : decode Y_CF_nearOf.2.1 163 = .ok (.aaload, 1) := by decide +kernel
theorem d_CF_nearOf_164 : decode Y_CF_nearOf.2.1 164 = .ok (.iload 8, 2) := by decide +kernel
theorem d_CF_nearOf_166 : decode Y_CF_nearOf.2.1 166 = .ok (.laload, 1) := by decide +kernel
theorem d_CF_nearOf_167 : decode Y_CF_nearOf.2.1 167 = .ok (.ldc2_w 199, 3) := by decide +kernel
theorem d_CF_nearOf_170 : decode Y_CF_nearOf.2.1 170 = .ok (.lcmp, 1) := by decide +kernel
theorem d_CF_nearOf_171 : decode Y_CF_nearOf.2.1 171 = .ok (.ifCond .ne 10, 3) := by decide +kernel
theorem d_CF_nearOf_174 : decode Y_CF_nearOf.2.1 174 = .ok (.iload 4, 2) := by decide +kernel
theorem d_CF_nearOf_176 : decode Y_CF_nearOf.2.1 176 = .ok (.ldc 201, 2) := by decide +kernel
theorem d_CF_nearOf_178 : decode Y_CF_nearOf.2.1 178 = .ok (.ior, 1) := by decide +kernel
theorem d_CF_nearOf_179 : decode Y_CF_nearOf.2.1 179 = .ok (.istore 4, 2) := by decide +kernel
theorem d_CF_nearOf_181 : decode Y_CF_nearOf.2.1 181 = .ok (.iinc 7 1, 3) := by decide +kernel
theorem d_CF_nearOf_184 : decode Y_CF_nearOf.2.1 184 = .ok (.goto (-115), 3) := by decide +kernel
theorem d_CF_nearOf_187 : decode Y_CF_nearOf.2.1 187 = .ok (.goto (-131), 3) := by decide +kernel
theorem d_CF_nearOf_190 : decode Y_CF_nearOf.2.1 190 = .ok (.iinc 5 1, 3) := by decide +kernel
theorem d_CF_nearOf_193 : decode Y_CF_nearOf.2.1 193 = .ok (.goto (-187), 3) := by decide +kernel
theorem d_CF_nearOf_196 : decode Y_CF_nearOf.2.1 196 = .ok (.iload 4, 2) := by decide +kernel
theorem d_CF_nearOf_198 : decode Y_CF_nearOf.2.1 198 = .ok (.ireturn, 1) := by decide +kernel
theorem d_CF_countAll_0 : decode Y_CF_countAll.2.1 0 = .ok (.iconst 0, 1) := by decide +kernel
theorem d_CF_countAll_1 : decode Y_CF_countAll.2.1 1 = .ok (.istore_n 3, 1) := by decide +kernel
theorem d_CF_countAll_2 : decode Y_CF_countAll.2.1 2 = .ok (.iconst 0, 1) := by decide +kernel
theorem d_CF_countAll_3 : decode Y_CF_countAll.2.1 3 = .ok (.istore 4, 2) := by decide +kernel
theorem d_CF_countAll_5 : decode Y_CF_countAll.2.1 5 = .ok (.iload 4, 2) := by decide +kernel
theorem d_CF_countAll_7 : decode Y_CF_countAll.2.1 7 = .ok (.iconst 5, 1) := by decide +kernel
theorem d_CF_countAll_8 : decode Y_CF_countAll.2.1 8 = .ok (.if_icmp .ge 49, 3) := by decide +kernel
theorem d_CF_countAll_11 : decode Y_CF_countAll.2.1 11 = .ok (.iload_n 3, 1) := by decide +kernel
theorem d_CF_countAll_12 : decode Y_CF_countAll.2.1 12 = .ok (.aload_n 0, 1) := by decide +kernel
theorem d_CF_countAll_13 : decode Y_CF_countAll.2.1 13 = .ok (.getfield 60, 3) := by decide +kernel
theorem d_CF_countAll_16 : decode Y_CF_countAll.2.1 16 = .ok (.iload 4, 2) := by decide +kernel
theorem d_CF_countAll_18 : decode Y_CF_countAll.2.1 18 = .ok (.iaload, 1) := by decide +kernel
theorem d_CF_countAll_19 : decode Y_CF_countAll.2.1 19 = .ok (.iload 4, 2) := by decide +kernel
theorem d_CF_countAll_21 : decode Y_CF_countAll.2.1 21 = .ok (.ishr, 1) := by decide +kernel
theorem d_CF_countAll_22 : decode Y_CF_countAll.2.1 22 = .ok (.iconst 1, 1) := by decide +kernel
theorem d_CF_countAll_23 : decode Y_CF_countAll.2.1 23 = .ok (.iand, 1) := by decide +kernel
theorem d_CF_countAll_24 : decode Y_CF_countAll.2.1 24 = .ok (.iconst 1, 1) := by decide +kernel
theorem d_CF_countAll_25 : decode Y_CF_countAll.2.1 25 = .ok (.if_icmp .eq 16, 3) := by decide +kernel
theorem d_CF_countAll_28 : decode Y_CF_countAll.2.1 28 = .ok (.aload_n 0, 1) := by decide +kernel
theorem d_CF_countAll_29 : decode Y_CF_countAll.2.1 29 = .ok (.getfield 60, 3) := by decide +kernel
theorem d_CF_countAll_32 : decode Y_CF_countAll.2.1 32 = .ok (.iload 4, 2) := by decide +kernel
theorem d_CF_countAll_34 : decode Y_CF_countAll.2.1 34 = .ok (.iaload, 1) := by decide +kernel
theorem d_CF_countAll_35 : decode Y_CF_countAll.2.1 35 = .ok (.bipush 30, 2) := by decide +kernel
theorem d_CF_countAll_37 : decode Y_CF_countAll.2.1 37 = .ok (.ishr, 1) := by decide +kernel
theorem d_CF_countAll_38 : decode Y_CF_countAll.2.1 38 = .ok (.ifCond .eq 10, 3) := by decide +kernel
theorem d_CF_countAll_41 : decode Y_CF_countAll.2.1 41 = .ok (.iconst 1, 1) := by decide +kernel
theorem d_CF_countAll_42 : decode Y_CF_countAll.2.1 42 = .ok (.iload 4, 2) := by decide +kernel
theorem d_CF_countAll_44 : decode Y_CF_countAll.2.1 44 = .ok (.ishl, 1) := by decide +kernel
theorem d_CF_countAll_45 : decode Y_CF_countAll.2.1 45 = .ok (.goto 4, 3) := by decide +kernel
theorem d_CF_countAll_48 : decode Y_CF_countAll.2.1 48 = .ok (.iconst 0, 1) := by decide +kernel
theorem d_CF_countAll_49 : decode Y_CF_countAll.2.1 49 = .ok (.ior, 1) := by decide +kernel
theorem d_CF_countAll_50 : decode Y_CF_countAll.2.1 50 = .ok (.istore_n 3, 1) := by decide +kernel
theorem d_CF_countAll_51 : decode Y_CF_countAll.2.1 51 = .ok (.iinc 4 1, 3) := by decide +kernel
theorem d_CF_countAll_54 : decode Y_CF_countAll.2.1 54 = .ok (.goto (-49), 3) := by decide +kernel
theorem d_CF_countAll_57 : decode Y_CF_countAll.2.1 57 = .ok (.iconst 0, 1) := by decide +kernel
theorem d_CF_countAll_58 : decode Y_CF_countAll.2.1 58 = .ok (.istore 4, 2) := by decide +kernel
theorem d_CF_countAll_60 : decode Y_CF_countAll.2.1 60 = .ok (.iconst 0, 1) := by decide +kernel
theorem d_CF_countAll_61 : decode Y_CF_countAll.2.1 61 = .ok (.istore 5, 2) := by decide +kernel
theorem d_CF_countAll_63 : decode Y_CF_countAll.2.1 63 = .ok (.iload 5, 2) := by decide +kernel
theorem d_CF_countAll_65 : decode Y_CF_countAll.2.1 65 = .ok (.iconst 5, 1) := by decide +kernel
theorem d_CF_countAll_66 : decode Y_CF_countAll.2.1 66 = .ok (.if_icmp .ge 47, 3) := by decide +kernel
theorem d_CF_countAll_69 : decode Y_CF_countAll.2.1 69 = .ok (.iload_n 3, 1) := by decide +kernel
theorem d_CF_countAll_70 : decode Y_CF_countAll.2.1 70 = .ok (.iload 5, 2) := by decide +kernel
theorem d_CF_countAll_72 : decode Y_CF_countAll.2.1 72 = .ok (.ishr, 1) := by decide +kernel
theorem d_CF_countAll_73 : decode Y_CF_countAll.2.1 73 = .ok (.iconst 1, 1) := by decide +kernel
theorem d_CF_countAll_74 : decode Y_CF_countAll.2.1 74 = .ok (.iand, 1) := by decide +kernel
theorem d_CF_countAll_75 : decode Y_CF_countAll.2.1 75 = .ok (.iconst 1, 1) := by decide +kernel
theorem d_CF_countAll_76 : decode Y_CF_countAll.2.1 76 = .ok (.if_icmp .eq 15, 3) := by decide +kernel
theorem d_CF_countAll_79 : decode Y_CF_countAll.2.1 79 = .ok (.aload_n 0, 1) := by decide +kernel
theorem d_CF_countAll_80 : decode Y_CF_countAll.2.1 80 = .ok (.getfield 60, 3) := by decide +kernel
theorem d_CF_countAll_83 : decode Y_CF_countAll.2.1 83 = .ok (.iload 5, 2) := by decide +kernel
theorem d_CF_countAll_85 : decode Y_CF_countAll.2.1 85 = .ok (.iaload, 1) := by decide +kernel
theorem d_CF_countAll_86 : decode Y_CF_countAll.2.1 86 = .ok (.iload_n 3, 1) := by decide +kernel
theorem d_CF_countAll_87 : decode Y_CF_countAll.2.1 87 = .ok (.iand, 1) := by decide +kernel
theorem d_CF_countAll_88 : decode Y_CF_countAll.2.1 88 = .ok (.ifCond .eq 19, 3) := by decide +kernel
theorem d_CF_countAll_91 : decode Y_CF_countAll.2.1 91 = .ok (.aload_n 1, 1) := by decide +kernel
theorem d_CF_countAll_92 : decode Y_CF_countAll.2.1 92 = .ok (.iload 5, 2) := by decide +kernel
theorem d_CF_countAll_94 : decode Y_CF_countAll.2.1 94 = .ok (.ldc2_w 199, 3) := by decide +kernel
theorem d_CF_countAll_97 : decode Y_CF_countAll.2.1 97 = .ok (.lastore, 1) := by decide +kernel
theorem d_CF_countAll_98 : decode Y_CF_countAll.2.1 98 = .ok (.iload 4, 2) := by decide +kernel
theorem d_CF_countAll_100 : decode Y_CF_countAll.2.1 100 = .ok (.iconst 1, 1) := by decide +kernel
theorem d_CF_countAll_101 : decode Y_CF_countAll.2.1 101 = .ok (.iload 5, 2) := by decide +kernel
theorem d_CF_countAll_103 : decode Y_CF_countAll.2.1 103 = .ok (.ishl, 1) := by decide +kernel
theorem d_CF_countAll_104 : decode Y_CF_countAll.2.1 104 = .ok (.ior, 1) := by decide +kernel
theorem d_CF_countAll_105 : decode Y_CF_countAll.2.1 105 = .ok (.istore 4, 2) := by decide +kernel
theorem d_CF_countAll_107 : decode Y_CF_countAll.2.1 107 = .ok (.iinc 5 1, 3) := by decide +kernel
theorem d_CF_countAll_110 : decode Y_CF_countAll.2.1 110 = .ok (.goto (-47), 3) := by decide +kernel
theorem d_CF_countAll_113 : decode Y_CF_countAll.2.1 113 = .ok (.iconst 0, 1) := by decide +kernel
theorem d_CF_countAll_114 : decode Y_CF_countAll.2.1 114 = .ok (.istore 5, 2) := by decide +kernel
theorem d_CF_countAll_116 : decode Y_CF_countAll.2.1 116 = .ok (.iload 5, 2) := by decide +kernel
theorem d_CF_countAll_118 : decode Y_CF_countAll.2.1 118 = .ok (.iconst 5, 1) := by decide +kernel
theorem d_CF_countAll_119 : decode Y_CF_countAll.2.1 119 = .ok (.if_icmp .ge 76, 3) := by decide +kernel
theorem d_CF_countAll_122 : decode Y_CF_countAll.2.1 122 = .ok (.iconst 0, 1) := by decide +kernel
theorem d_CF_countAll_123 : decode Y_CF_countAll.2.1 123 = .ok (.istore 6, 2) := by decide +kernel
theorem d_CF_countAll_125 : decode Y_CF_countAll.2.1 125 = .ok (.iload 6, 2) := by decide +kernel
theorem d_CF_countAll_127 : decode Y_CF_countAll.2.1 127 = .ok (.iconst 5, 1) := by decide +kernel
theorem d_CF_countAll_128 : decode Y_CF_countAll.2.1 128 = .ok (.if_icmp .ge 61, 3) := by decide +kernel
theorem d_CF_countAll_131 : decode Y_CF_countAll.2.1 131 = .ok (.iload 4, 2) := by decide +kernel
theorem d_CF_countAll_133 : decode Y_CF_countAll.2.1 133 = .ok (.iload 6, 2) := by decide +kernel
theorem d_CF_countAll_135 : decode Y_CF_countAll.2.1 135 = .ok (.ishr, 1) := by decide +kernel
theorem d_CF_countAll_136 : decode Y_CF_countAll.2.1 136 = .ok (.iconst 1, 1) := by decide +kernel
theorem d_CF_countAll_137 : decode Y_CF_countAll.2.1 137 = .ok (.iand, 1) := by decide +kernel
theorem d_CF_countAll_138 : decode Y_CF_countAll.2.1 138 = .ok (.ifCond .ne 45, 3) := by decide +kernel
theorem d_CF_countAll_141 : decode Y_CF_countAll.2.1 141 = .ok (.aload_n 0, 1) := by decide +kernel
theorem d_CF_countAll_142 : decode Y_CF_countAll.2.1 142 = .ok (.getfield 60, 3) := by decide +kernel
theorem d_CF_countAll_145 : decode Y_CF_countAll.2.1 145 = .ok (.iload 6, 2) := by decide +kernel
theorem d_CF_countAll_147 : decode Y_CF_countAll.2.1 147 = .ok (.iaload, 1) := by decide +kernel
theorem d_CF_countAll_148 : decode Y_CF_countAll.2.1 148 = .ok (.bipush 31, 2) := by decide +kernel
theorem d_CF_countAll_150 : decode Y_CF_countAll.2.1 150 = .ok (.iand, 1) := by decide +kernel
theorem d_CF_countAll_151 : decode Y_CF_countAll.2.1 151 = .ok (.iload 4, 2) := by decide +kernel
theorem d_CF_countAll_153 : decode Y_CF_countAll.2.1 153 = .ok (.iconst (-1), 1) := by decide +kernel
theorem d_CF_countAll_154 : decode Y_CF_countAll.2.1 154 = .ok (.ixor, 1) := by decide +kernel
theorem d_CF_countAll_155 : decode Y_CF_countAll.2.1 155 = .ok (.iand, 1) := by decide +kernel
theorem d_CF_countAll_156 : decode Y_CF_countAll.2.1 156 = .ok (.ifCond .ne 27, 3) := by decide +kernel
theorem d_CF_countAll_159 : decode Y_CF_countAll.2.1 159 = .ok (.aload_n 1, 1) := by decide +kernel
theorem d_CF_countAll_160 : decode Y_CF_countAll.2.1 160 = .ok (.iload 6, 2) := by decide +kernel
theorem d_CF_countAll_162 : decode Y_CF_countAll.2.1 162 = .ok (.aload_n 0, 1) := by decide +kernel
theorem d_CF_countAll_163 : decode Y_CF_countAll.2.1 163 = .ok (.iload 6, 2) := by decide +kernel
theorem d_CF_countAll_165 : decode Y_CF_countAll.2.1 165 = .ok (.iload_n 2, 1) := by decide +kernel
theorem d_CF_countAll_166 : decode Y_CF_countAll.2.1 166 = .ok (.aload_n 0, 1) := by decide +kernel
theorem d_CF_countAll_167 : decode Y_CF_countAll.2.1 167 = .ok (.getfield 109, 3) := by decide +kernel
theorem d_CF_countAll_170 : decode Y_CF_countAll.2.1 170 = .ok (.invokevirtual 234, 3) := by decide +kernel
theorem d_CF_countAll_173 : decode Y_CF_countAll.2.1 173 = .ok (.lastore, 1) := by decide +kernel
theorem d_CF_countAll_174 : decode Y_CF_countAll.2.1 174 = .ok (.iload 4, 2) := by decide +kernel
theorem d_CF_countAll_176 : decode Y_CF_countAll.2.1 176 = .ok (.iconst 1, 1) := by decide +kernel
theorem d_CF_countAll_177 : decode Y_CF_countAll.2.1 177 = .ok (.iload 6, 2) := by decide +kernel
theorem d_CF_countAll_179 : decode Y_CF_countAll.2.1 179 = .ok (.ishl, 1) := by decide +kernel
theorem d_CF_countAll_180 : decode Y_CF_countAll.2.1 180 = .ok (.ior, 1) := by decide +kernel
theorem d_CF_countAll_181 : decode Y_CF_countAll.2.1 181 = .ok (.istore 4, 2) := by decide +kernel
theorem d_CF_countAll_183 : decode Y_CF_countAll.2.1 183 = .ok (.iinc 6 1, 3) := by decide +kernel
theorem d_CF_countAll_186 : decode Y_CF_countAll.2.1 186 = .ok (.goto (-61), 3) := by decide +kernel
theorem d_CF_countAll_189 : decode Y_CF_countAll.2.1 189 = .ok (.iinc 5 1, 3) := by decide +kernel
theorem d_CF_countAll_192 : decode Y_CF_countAll.2.1 192 = .ok (.goto (-76), 3) := by decide +kernel
theorem d_CF_countAll_195 : decode Y_CF_countAll.2.1 195 = .ok (.return_, 1) := by decide +kernel
theorem d_CF_counted_0 : decode Y_CF_counted.2.1 0 = .ok (.lconst 0, 1) := by decide +kernel
theorem d_CF_counted_1 : decode Y_CF_counted.2.1 1 = .ok (.lstore 4, 2) := by decide +kernel
theorem d_CF_counted_3 : decode Y_CF_counted.2.1 3 = .ok (.iconst 0, 1) := by decide +kernel
theorem d_CF_counted_4 : decode Y_CF_counted.2.1 4 = .ok (.istore 6, 2) := by decide +kernel
theorem d_CF_counted_6 : decode Y_CF_counted.2.1 6 = .ok (.iload 6, 2) := by decide +kernel
theorem d_CF_counted_8 : decode Y_CF_counted.2.1 8 = .ok (.aload_n 0, 1) := by decide +kernel
theorem d_CF_counted_9 : decode Y_CF_counted.2.1 9 = .ok (.getfield 23, 3) := by decide +kernel
theorem d_CF_counted_12 : decode Y_CF_counted.2.1 12 = .ok (.invokevirtual 105, 3) := by decide +kernel
theorem d_CF_counted_15 : decode Y_CF_counted.2.1 15 = .ok (.if_icmp .ge 82, 3) := by decide +kernel
theorem d_CF_counted_18 : decode Y_CF_counted.2.1 18 = .ok (.aload_n 0, 1) := by decide +kernel
theorem d_CF_counted_19 : decode Y_CF_counted.2.1 19 = .ok (.getfield 23, 3) := by decide +kernel
theorem d_CF_counted_22 : decode Y_CF_counted.2.1 22 = .ok (.iload 6, 2) := by decide +kernel
theorem d_CF_counted_24 : decode Y_CF_counted.2.1 24 = .ok (.invokevirtual 87, 3) := by decide +kernel
theorem d_CF_counted_27 : decode Y_CF_counted.2.1 27 = .ok (.checkcast 9, 3) := by decide +kernel
theorem d_CF_counted_30 : decode Y_CF_counted.2.1 30 = .ok (.getfield 144, 3) := by decide +kernel
theorem d_CF_counted_33 : decode Y_CF_counted.2.1 33 = .ok (.iload_n 1, 1) := by decide +kernel
theorem d_CF_counted_34 : decode Y_CF_counted.2.1 34 = .ok (.if_icmp .ne 57, 3) := by decide +kernel
theorem d_CF_counted_37 : decode Y_CF_counted.2.1 37 = .ok (.aload_n 0, 1) := by decide +kernel
theorem d_CF_counted_38 : decode Y_CF_counted.2.1 38 = .ok (.getfield 46, 3) := by decide +kernel
theorem d_CF_counted_41 : decode Y_CF_counted.2.1 41 = .ok (.aload_n 0, 1) := by decide +kernel
theorem d_CF_counted_42 : decode Y_CF_counted.2.1 42 = .ok (.aload_n 0, 1) := by decide +kernel
theorem d_CF_counted_43 : decode Y_CF_counted.2.1 43 = .ok (.getfield 23, 3) := by decide +kernel
theorem d_CF_counted_46 : decode Y_CF_counted.2.1 46 = .ok (.iload 6, 2) := by decide +kernel
theorem d_CF_counted_48 : decode Y_CF_counted.2.1 48 = .ok (.invokevirtual 87, 3) := by decide +kernel
theorem d_CF_counted_51 : decode Y_CF_counted.2.1 51 = .ok (.checkcast 9, 3) := by decide +kernel
theorem d_CF_counted_54 : decode Y_CF_counted.2.1 54 = .ok (.iload_n 2, 1) := by decide +kernel
theorem d_CF_counted_55 : decode Y_CF_counted.2.1 55 = .ok (.iload_n 3, 1) := by decide +kernel
theorem d_CF_counted_56 : decode Y_CF_counted.2.1 56 = .ok (.invokevirtual 181, 3) := by decide +kernel
theorem d_CF_counted_59 : decode Y_CF_counted.2.1 59 = .ok (.aload_n 0, 1) := by decide +kernel
theorem d_CF_counted_60 : decode Y_CF_counted.2.1 60 = .ok (.getfield 46, 3) := by decide +kernel
theorem d_CF_counted_63 : decode Y_CF_counted.2.1 63 = .ok (.invokevirtual 185, 3) := by decide +kernel
theorem d_CF_counted_66 : decode Y_CF_counted.2.1 66 = .ok (.ifCond .eq 25, 3) := by decide +kernel
theorem d_CF_counted_69 : decode Y_CF_counted.2.1 69 = .ok (.ldc2_w 202, 3) := by decide +kernel
theorem d_CF_counted_72 : decode Y_CF_counted.2.1 72 = .ok (.lload 4, 2) := by decide +kernel
theorem d_CF_counted_74 : decode Y_CF_counted.2.1 74 = .ok (.aload_n 0, 1) := by decide +kernel
theorem d_CF_counted_75 : decode Y_CF_counted.2.1 75 = .ok (.aload_n 0, 1) := by decide +kernel
theorem d_CF_counted_76 : decode Y_CF_counted.2.1 76 = .ok (.getfield 46, 3) := by decide +kernel
theorem d_CF_counted_79 : decode Y_CF_counted.2.1 79 = .ok (.invokevirtual 215, 3) := by decide +kernel
theorem d_CF_counted_82 : decode Y_CF_counted.2.1 82 = .ok (.ladd, 1) := by decide +kernel
theorem d_CF_counted_83 : decode Y_CF_counted.2.1 83 = .ok (.invokestatic 218, 3) := by decide +kernel
theorem d_CF_counted_86 : decode Y_CF_counted.2.1 86 = .ok (.lstore 4, 2) := by decide +kernel
theorem d_CF_counted_88 : decode Y_CF_counted.2.1 88 = .ok (.goto (-29), 3) := by decide +kernel
theorem d_CF_counted_91 : decode Y_CF_counted.2.1 91 = .ok (.iinc 6 1, 3) := by decide +kernel
theorem d_CF_counted_94 : decode Y_CF_counted.2.1 94 = .ok (.goto (-88), 3) := by decide +kernel
theorem d_CF_counted_97 : decode Y_CF_counted.2.1 97 = .ok (.lload 4, 2) := by decide +kernel
theorem d_CF_counted_99 : decode Y_CF_counted.2.1 99 = .ok (.lreturn, 1) := by decide +kernel
theorem d_CF_treesOf_0 : decode Y_CF_treesOf.2.1 0 = .ok (.lconst 1, 1) := by decide +kernel
theorem d_CF_treesOf_1 : decode Y_CF_treesOf.2.1 1 = .ok (.lstore_n 2, 1) := by decide +kernel
theorem d_CF_treesOf_2 : decode Y_CF_treesOf.2.1 2 = .ok (.iconst 0, 1) := by decide +kernel
theorem d_CF_treesOf_3 : decode Y_CF_treesOf.2.1 3 = .ok (.istore 4, 2) := by decide +kernel
theorem d_CF_treesOf_5 : decode Y_CF_treesOf.2.1 5 = .ok (.iload 4, 2) := by decide +kernel
theorem d_CF_treesOf_7 : decode Y_CF_treesOf.2.1 7 = .ok (.aload_n 1, 1) := by decide +kernel
theorem d_CF_treesOf_8 : decode Y_CF_treesOf.2.1 8 = .ok (.getfield 204, 3) := by decide +kernel
theorem d_CF_treesOf_11 : decode Y_CF_treesOf.2.1 11 = .ok (.getfield 189, 3) := by decide +kernel
theorem d_CF_treesOf_14 : decode Y_CF_treesOf.2.1 14 = .ok (.arraylength, 1) := by decide +kernel
theorem d_CF_treesOf_15 : decode Y_CF_treesOf.2.1 15 = .ok (.if_icmp .ge 44, 3) := by decide +kernel
theorem d_CF_treesOf_18 : decode Y_CF_treesOf.2.1 18 = .ok (.lload_n 2, 1) := by decide +kernel
theorem d_CF_treesOf_19 : decode Y_CF_treesOf.2.1 19 = .ok (.aload_n 0, 1) := by decide +kernel
theorem d_CF_treesOf_20 : decode Y_CF_treesOf.2.1 20 = .ok (.aload_n 1, 1) := by decide +kernel
theorem d_CF_treesOf_21 : decode Y_CF_treesOf.2.1 21 = .ok (.getfield 204, 3) := by decide +kernel
theorem d_CF_treesOf_24 : decode Y_CF_treesOf.2.1 24 = .ok (.getfield 189, 3) := by decide +kernel
theorem d_CF_treesOf_27 : decode Y_CF_treesOf.2.1 27 = .ok (.iload 4, 2) := by decide +kernel
theorem d_CF_treesOf_29 : decode Y_CF_treesOf.2.1 29 = .ok (.iaload, 1) := by decide +kernel
theorem d_CF_treesOf_30 : decode Y_CF_treesOf.2.1 30 = .ok (.aload_n 1, 1) := by decide +kernel
theorem d_CF_treesOf_31 : decode Y_CF_treesOf.2.1 31 = .ok (.getfield 192, 3) := by decide +kernel
theorem d_CF_treesOf_34 : decode Y_CF_treesOf.2.1 34 = .ok (.iload 4, 2) := by decide +kernel
theorem d_CF_treesOf_36 : decode Y_CF_treesOf.2.1 36 = .ok (.iaload, 1) := by decide +kernel
theorem d_CF_treesOf_37 : decode Y_CF_treesOf.2.1 37 = .ok (.aload_n 1, 1) := by decide +kernel
theorem d_CF_treesOf_38 : decode Y_CF_treesOf.2.1 38 = .ok (.getfield 192, 3) := by decide +kernel
theorem d_CF_treesOf_41 : decode Y_CF_treesOf.2.1 41 = .ok (.iload 4, 2) := by decide +kernel
theorem d_CF_treesOf_43 : decode Y_CF_treesOf.2.1 43 = .ok (.iconst 1, 1) := by decide +kernel
theorem d_CF_treesOf_44 : decode Y_CF_treesOf.2.1 44 = .ok (.iadd, 1) := by decide +kernel
theorem d_CF_treesOf_45 : decode Y_CF_treesOf.2.1 45 = .ok (.iaload, 1) := by decide +kernel
theorem d_CF_treesOf_46 : decode Y_CF_treesOf.2.1 46 = .ok (.invokevirtual 207, 3) := by decide +kernel
theorem d_CF_treesOf_49 : decode Y_CF_treesOf.2.1 49 = .ok (.invokestatic 211, 3) := by decide +kernel
theorem d_CF_treesOf_52 : decode Y_CF_treesOf.2.1 52 = .ok (.lstore_n 2, 1) := by decide +kernel
theorem d_CF_treesOf_53 : decode Y_CF_treesOf.2.1 53 = .ok (.iinc 4 1, 3) := by decide +kernel
theorem d_CF_treesOf_56 : decode Y_CF_treesOf.2.1 56 = .ok (.goto (-51), 3) := by decide +kernel
theorem d_CF_treesOf_59 : decode Y_CF_treesOf.2.1 59 = .ok (.lload_n 2, 1) := by decide +kernel
theorem d_CF_treesOf_60 : decode Y_CF_treesOf.2.1 60 = .ok (.lreturn, 1) := by decide +kernel
theorem d_CF_treesOf2_0 : decode Y_CF_treesOf2.2.1 0 = .ok (.iload_n 1, 1) := by decide +kernel
theorem d_CF_treesOf2_1 : decode Y_CF_treesOf2.2.1 1 = .ok (.invokestatic 95, 3) := by decide +kernel
theorem d_CF_treesOf2_4 : decode Y_CF_treesOf2.2.1 4 = .ok (.ifCond .eq 19, 3) := by decide +kernel
theorem d_CF_treesOf2_7 : decode Y_CF_treesOf2.2.1 7 = .ok (.aload_n 0, 1) := by decide +kernel
theorem d_CF_treesOf2_8 : decode Y_CF_treesOf2.2.1 8 = .ok (.getfield 39, 3) := by decide +kernel
theorem d_CF_treesOf2_11 : decode Y_CF_treesOf2.2.1 11 = .ok (.iload_n 3, 1) := by decide +kernel
theorem d_CF_treesOf2_12 : decode Y_CF_treesOf2.2.1 12 = .ok (.aaload, 1) := by decide +kernel
theorem d_CF_treesOf2_13 : decode Y_CF_treesOf2.2.1 13 = .ok (.getfield 195, 3) := by decide +kernel
theorem d_CF_treesOf2_16 : decode Y_CF_treesOf2.2.1 16 = .ok (.iload_n 2, 1) := by decide +kernel
theorem d_CF_treesOf2_17 : decode Y_CF_treesOf2.2.1 17 = .ok (.aaload, 1) := by decide +kernel
theorem d_CF_treesOf2_18 : decode Y_CF_treesOf2.2.1 18 = .ok (.iload_n 1, 1) := by decide +kernel
theorem d_CF_treesOf2_19 : decode Y_CF_treesOf2.2.1 19 = .ok (.laload, 1) := by decide +kernel
theorem d_CF_treesOf2_20 : decode Y_CF_treesOf2.2.1 20 = .ok (.goto 4, 3) := by decide +kernel
theorem d_CF_treesOf2_23 : decode Y_CF_treesOf2.2.1 23 = .ok (.lconst 1, 1) := by decide +kernel
theorem d_CF_treesOf2_24 : decode Y_CF_treesOf2.2.1 24 = .ok (.lreturn, 1) := by decide +kernel
theorem d_CF_product_0 : decode Y_CF_product.2.1 0 = .ok (.lload_n 0, 1) := by decide +kernel
theorem d_CF_product_1 : decode Y_CF_product.2.1 1 = .ok (.lconst 0, 1) := by decide +kernel
theorem d_CF_product_2 : decode Y_CF_product.2.1 2 = .ok (.lcmp, 1) := by decide +kernel
theorem d_CF_product_3 : decode Y_CF_product.2.1 3 = .ok (.ifCond .le 19, 3) := by decide +kernel
theorem d_CF_product_6 : decode Y_CF_product.2.1 6 = .ok (.lload_n 2, 1) := by decide +kernel
theorem d_CF_product_7 : decode Y_CF_product.2.1 7 = .ok (.ldc2_w 202, 3) := by decide +kernel
theorem d_CF_product_10 : decode Y_CF_product.2.1 10 = .ok (.lload_n 0, 1) := by decide +kernel
theorem d_CF_product_11 : decode Y_CF_product.2.1 11 = .ok (.ldiv, 1) := by decide +kernel
theorem d_CF_product_12 : decode Y_CF_product.2.1 12 = .ok (.lcmp, 1) := by decide +kernel
theorem d_CF_product_13 : decode Y_CF_product.2.1 13 = .ok (.ifCond .le 9, 3) := by decide +kernel
theorem d_CF_product_16 : decode Y_CF_product.2.1 16 = .ok (.ldc2_w 202, 3) := by decide +kernel
theorem d_CF_product_19 : decode Y_CF_product.2.1 19 = .ok (.goto 6, 3) := by decide +kernel
theorem d_CF_product_22 : decode Y_CF_product.2.1 22 = .ok (.lload_n 0, 1) := by decide +kernel
theorem d_CF_product_23 : decode Y_CF_product.2.1 23 = .ok (.lload_n 2, 1) := by decide +kernel
theorem d_CF_product_24 : decode Y_CF_product.2.1 24 = .ok (.lmul, 1) := by decide +kernel
theorem d_CF_product_25 : decode Y_CF_product.2.1 25 = .ok (.lreturn, 1) := by decide +kernel
theorem d_Ma_min2_0 : decode Y_Ma_min2.2.1 0 = .ok (.lload_n 0, 1) := by decide +kernel
theorem d_Ma_min2_1 : decode Y_Ma_min2.2.1 1 = .ok (.lload_n 2, 1) := by decide +kernel
theorem d_Ma_min2_2 : decode Y_Ma_min2.2.1 2 = .ok (.lcmp, 1) := by decide +kernel
theorem d_Ma_min2_3 : decode Y_Ma_min2.2.1 3 = .ok (.ifCond .gt 7, 3) := by decide +kernel
theorem d_Ma_min2_6 : decode Y_Ma_min2.2.1 6 = .ok (.lload_n 0, 1) := by decide +kernel
theorem d_Ma_min2_7 : decode Y_Ma_min2.2.1 7 = .ok (.goto 4, 3) := by decide +kernel
theorem d_Ma_min2_10 : decode Y_Ma_min2.2.1 10 = .ok (.lload_n 2, 1) := by decide +kernel
theorem d_Ma_min2_11 : decode Y_Ma_min2.2.1 11 = .ok (.lreturn, 1) := by decide +kernel
theorem d_CF_feed_0 : decode Y_CF_feed.2.1 0 = .ok (.iload_n 1, 1) := by decide +kernel
theorem d_CF_feed_1 : decode Y_CF_feed.2.1 1 = .ok (.invokestatic 102, 3) := by decide +kernel
theorem d_CF_feed_4 : decode Y_CF_feed.2.1 4 = .ok (.ifCond .ne 11, 3) := by decide +kernel
theorem d_CF_feed_7 : decode Y_CF_feed.2.1 7 = .ok (.new 99, 3) := by decide +kernel
theorem d_CF_feed_10 : decode Y_CF_feed.2.1 10 = .ok (.dup, 1) := by decide +kernel
theorem d_CF_feed_11 : decode Y_CF_feed.2.1 11 = .ok (.invokespecial 101, 3) := by decide +kernel
theorem d_CF_feed_14 : decode Y_CF_feed.2.1 14 = .ok (.athrow, 1) := by decide +kernel
theorem d_CF_feed_15 : decode Y_CF_feed.2.1 15 = .ok (.aload_n 0, 1) := by decide +kernel
theorem d_CF_feed_16 : decode Y_CF_feed.2.1 16 = .ok (.getfield 109, 3) := by decide +kernel
theorem d_CF_feed_19 : decode Y_CF_feed.2.1 19 = .ok (.bipush 12, 2) := by decide +kernel
theorem d_CF_feed_21 : decode Y_CF_feed.2.1 21 = .ok (.if_icmp .lt 11, 3) := by decide +kernel
theorem d_CF_feed_24 : decode Y_CF_feed.2.1 24 = .ok (.new 113, 3) := by decide +kernel
theorem d_CF_feed_27 : decode Y_CF_feed.2.1 27 = .ok (.dup, 1) := by decide +kernel
theorem d_CF_feed_28 : decode Y_CF_feed.2.1 28 = .ok (.invokespecial 115, 3) := by decide +kernel
theorem d_CF_feed_31 : decode Y_CF_feed.2.1 31 = .ok (.athrow, 1) := by decide +kernel
theorem d_CF_feed_32 : decode Y_CF_feed.2.1 32 = .ok (.aload_n 0, 1) := by decide +kernel
theorem d_CF_feed_33 : decode Y_CF_feed.2.1 33 = .ok (.invokevirtual 172, 3) := by decide +kernel
theorem d_CF_feed_36 : decode Y_CF_feed.2.1 36 = .ok (.iload_n 1, 1) := by decide +kernel
theorem d_CF_feed_37 : decode Y_CF_feed.2.1 37 = .ok (.bipush 8, 2) := by decide +kernel
theorem d_CF_feed_39 : decode Y_CF_feed.2.1 39 = .ok (.isub, 1) := by decide +kernel
theorem d_CF_feed_40 : decode Y_CF_feed.2.1 40 = .ok (.ishr, 1) := by decide +kernel
theorem d_CF_feed_41 : decode Y_CF_feed.2.1 41 = .ok (.iconst 1, 1) := by decide +kernel
theorem d_CF_feed_42 : decode Y_CF_feed.2.1 42 = .ok (.iand, 1) := by decide +kernel
theorem d_CF_feed_43 : decode Y_CF_feed.2.1 43 = .ok (.ifCond .ne 11, 3) := by decide +kernel
theorem d_CF_feed_46 : decode Y_CF_feed.2.1 46 = .ok (.new 175, 3) := by decide +kernel
theorem d_CF_feed_49 : decode Y_CF_feed.2.1 49 = .ok (.dup, 1) := by decide +kernel
theorem d_CF_feed_50 : decode Y_CF_feed.2.1 50 = .ok (.invokespecial 177, 3) := by decide +kernel
theorem d_CF_feed_53 : decode Y_CF_feed.2.1 53 = .ok (.athrow, 1) := by decide +kernel
theorem d_CF_feed_54 : decode Y_CF_feed.2.1 54 = .ok (.aload_n 0, 1) := by decide +kernel
theorem d_CF_feed_55 : decode Y_CF_feed.2.1 55 = .ok (.getfield 33, 3) := by decide +kernel
theorem d_CF_feed_58 : decode Y_CF_feed.2.1 58 = .ok (.aload_n 0, 1) := by decide +kernel
theorem d_CF_feed_59 : decode Y_CF_feed.2.1 59 = .ok (.getfield 109, 3) := by decide +kernel
theorem d_CF_feed_62 : decode Y_CF_feed.2.1 62 = .ok (.iload_n 1, 1) := by decide +kernel
theorem d_CF_feed_63 : decode Y_CF_feed.2.1 63 = .ok (.iastore, 1) := by decide +kernel
theorem d_CF_feed_64 : decode Y_CF_feed.2.1 64 = .ok (.aload_n 0, 1) := by decide +kernel
theorem d_CF_feed_65 : decode Y_CF_feed.2.1 65 = .ok (.dup, 1) := by decide +kernel
theorem d_CF_feed_66 : decode Y_CF_feed.2.1 66 = .ok (.getfield 109, 3) := by decide +kernel
theorem d_CF_feed_69 : decode Y_CF_feed.2.1 69 = .ok (.iconst 1, 1) := by decide +kernel
theorem d_CF_feed_70 : decode Y_CF_feed.2.1 70 = .ok (.iadd, 1) := by decide +kernel
theorem d_CF_feed_71 : decode Y_CF_feed.2.1 71 = .ok (.putfield 109, 3) := by decide +kernel
theorem d_CF_feed_74 : decode Y_CF_feed.2.1 74 = .ok (.aload_n 0, 1) := by decide +kernel
theorem d_CF_feed_75 : decode Y_CF_feed.2.1 75 = .ok (.getfield 29, 3) := by decide +kernel
theorem d_CF_feed_78 : decode Y_CF_feed.2.1 78 = .ok (.aload_n 0, 1) := by decide +kernel
theorem d_CF_feed_79 : decode Y_CF_feed.2.1 79 = .ok (.getfield 109, 3) := by decide +kernel
theorem d_CF_feed_82 : decode Y_CF_feed.2.1 82 = .ok (.aaload, 1) := by decide +kernel
theorem d_CF_feed_83 : decode Y_CF_feed.2.1 83 = .ok (.invokevirtual 74, 3) := by decide +kernel
theorem d_CF_feed_86 : decode Y_CF_feed.2.1 86 = .ok (.aload_n 0, 1) := by decide +kernel
theorem d_CF_feed_87 : decode Y_CF_feed.2.1 87 = .ok (.aload_n 0, 1) := by decide +kernel
theorem d_CF_feed_88 : decode Y_CF_feed.2.1 88 = .ok (.getfield 29, 3) := by decide +kernel
theorem d_CF_feed_91 : decode Y_CF_feed.2.1 91 = .ok (.aload_n 0, 1) := by decide +kernel
theorem d_CF_feed_92 : decode Y_CF_feed.2.1 92 = .ok (.getfield 109, 3) := by decide +kernel
theorem d_CF_feed_95 : decode Y_CF_feed.2.1 95 = .ok (.aaload, 1) := by decide +kernel
theorem d_CF_feed_96 : decode Y_CF_feed.2.1 96 = .ok (.aload_n 0, 1) := by decide +kernel
theorem d_CF_feed_97 : decode Y_CF_feed.2.1 97 = .ok (.getfield 29, 3) := by decide +kernel
theorem d_CF_feed_100 : decode Y_CF_feed.2.1 100 = .ok (.aload_n 0, 1) := by decide +kernel
theorem d_CF_feed_101 : decode Y_CF_feed.2.1 101 = .ok (.getfield 109, 3) := by decide +kernel
theorem d_CF_feed_104 : decode Y_CF_feed.2.1 104 = .ok (.iconst 1, 1) := by decide +kernel
theorem d_CF_feed_105 : decode Y_CF_feed.2.1 105 = .ok (.isub, 1) := by decide +kernel
theorem d_CF_feed_106 : decode Y_CF_feed.2.1 106 = .ok (.aaload, 1) := by decide +kernel
theorem d_CF_feed_107 : decode Y_CF_feed.2.1 107 = .ok (.iload_n 1, 1) := by decide +kernel
theorem d_CF_feed_108 : decode Y_CF_feed.2.1 108 = .ok (.invokevirtual 150, 3) := by decide +kernel
theorem d_CF_feed_111 : decode Y_CF_feed.2.1 111 = .ok (.aload_n 0, 1) := by decide +kernel
theorem d_CF_feed_112 : decode Y_CF_feed.2.1 112 = .ok (.aload_n 0, 1) := by decide +kernel
theorem d_CF_feed_113 : decode Y_CF_feed.2.1 113 = .ok (.getfield 109, 3) := by decide +kernel
theorem d_CF_feed_116 : decode Y_CF_feed.2.1 116 = .ok (.invokevirtual 84, 3) := by decide +kernel
theorem d_CF_feed_119 : decode Y_CF_feed.2.1 119 = .ok (.aload_n 0, 1) := by decide +kernel
theorem d_CF_feed_120 : decode Y_CF_feed.2.1 120 = .ok (.getfield 39, 3) := by decide +kernel
theorem d_CF_feed_123 : decode Y_CF_feed.2.1 123 = .ok (.aload_n 0, 1) := by decide +kernel
theorem d_CF_feed_124 : decode Y_CF_feed.2.1 124 = .ok (.getfield 109, 3) := by decide +kernel
theorem d_CF_feed_127 : decode Y_CF_feed.2.1 127 = .ok (.aaload, 1) := by decide +kernel
theorem d_CF_feed_128 : decode Y_CF_feed.2.1 128 = .ok (.invokevirtual 91, 3) := by decide +kernel
theorem d_CF_feed_131 : decode Y_CF_feed.2.1 131 = .ok (.aload_n 0, 1) := by decide +kernel
theorem d_CF_feed_132 : decode Y_CF_feed.2.1 132 = .ok (.getfield 109, 3) := by decide +kernel
theorem d_CF_feed_135 : decode Y_CF_feed.2.1 135 = .ok (.istore_n 2, 1) := by decide +kernel
theorem d_CF_feed_136 : decode Y_CF_feed.2.1 136 = .ok (.iload_n 2, 1) := by decide +kernel
theorem d_CF_feed_137 : decode Y_CF_feed.2.1 137 = .ok (.ifCond .lt 14, 3) := by decide +kernel
theorem d_CF_feed_140 : decode Y_CF_feed.2.1 140 = .ok (.aload_n 0, 1) := by decide +kernel
theorem d_CF_feed_141 : decode Y_CF_feed.2.1 141 = .ok (.iload_n 2, 1) := by decide +kernel
theorem d_CF_feed_142 : decode Y_CF_feed.2.1 142 = .ok (.invokevirtual 92, 3) := by decide +kernel
theorem d_CF_feed_145 : decode Y_CF_feed.2.1 145 = .ok (.iinc 2 (-1), 3) := by decide +kernel
theorem d_CF_feed_148 : decode Y_CF_feed.2.1 148 = .ok (.goto (-12), 3) := by decide +kernel
theorem d_CF_feed_151 : decode Y_CF_feed.2.1 151 = .ok (.aload_n 0, 1) := by decide +kernel
theorem d_CF_feed_152 : decode Y_CF_feed.2.1 152 = .ok (.getfield 29, 3) := by decide +kernel
theorem d_CF_feed_155 : decode Y_CF_feed.2.1 155 = .ok (.aload_n 0, 1) := by decide +kernel
theorem d_CF_feed_156 : decode Y_CF_feed.2.1 156 = .ok (.getfield 109, 3) := by decide +kernel
theorem d_CF_feed_159 : decode Y_CF_feed.2.1 159 = .ok (.aaload, 1) := by decide +kernel
theorem d_CF_feed_160 : decode Y_CF_feed.2.1 160 = .ok (.getfield 136, 3) := by decide +kernel
theorem d_CF_feed_163 : decode Y_CF_feed.2.1 163 = .ok (.ireturn, 1) := by decide +kernel
theorem d_CF_back_0 : decode Y_CF_back.2.1 0 = .ok (.iload_n 1, 1) := by decide +kernel
theorem d_CF_back_1 : decode Y_CF_back.2.1 1 = .ok (.ifCond .lt 11, 3) := by decide +kernel
theorem d_CF_back_4 : decode Y_CF_back.2.1 4 = .ok (.iload_n 1, 1) := by decide +kernel
theorem d_CF_back_5 : decode Y_CF_back.2.1 5 = .ok (.aload_n 0, 1) := by decide +kernel
theorem d_CF_back_6 : decode Y_CF_back.2.1 6 = .ok (.getfield 109, 3) := by decide +kernel
theorem d_CF_back_9 : decode Y_CF_back.2.1 9 = .ok (.if_icmp .le 11, 3) := by decide +kernel
theorem d_CF_back_12 : decode Y_CF_back.2.1 12 = .ok (.new 99, 3) := by decide +kernel
theorem d_CF_back_15 : decode Y_CF_back.2.1 15 = .ok (.dup, 1) := by decide +kernel
theorem d_CF_back_16 : decode Y_CF_back.2.1 16 = .ok (.invokespecial 101, 3) := by decide +kernel
theorem d_CF_back_19 : decode Y_CF_back.2.1 19 = .ok (.athrow, 1) := by decide +kernel
theorem d_CF_back_20 : decode Y_CF_back.2.1 20 = .ok (.aload_n 0, 1) := by decide +kernel
theorem d_CF_back_21 : decode Y_CF_back.2.1 21 = .ok (.dup, 1) := by decide +kernel
theorem d_CF_back_22 : decode Y_CF_back.2.1 22 = .ok (.getfield 109, 3) := by decide +kernel
theorem d_CF_back_25 : decode Y_CF_back.2.1 25 = .ok (.iload_n 1, 1) := by decide +kernel
theorem d_CF_back_26 : decode Y_CF_back.2.1 26 = .ok (.isub, 1) := by decide +kernel
theorem d_CF_back_27 : decode Y_CF_back.2.1 27 = .ok (.putfield 109, 3) := by decide +kernel
theorem d_CF_back_30 : decode Y_CF_back.2.1 30 = .ok (.aload_n 0, 1) := by decide +kernel
theorem d_CF_back_31 : decode Y_CF_back.2.1 31 = .ok (.getfield 109, 3) := by decide +kernel
theorem d_CF_back_34 : decode Y_CF_back.2.1 34 = .ok (.ireturn, 1) := by decide +kernel
theorem d_CF_items_0 : decode Y_CF_items.2.1 0 = .ok (.aload_n 0, 1) := by decide +kernel
theorem d_CF_items_1 : decode Y_CF_items.2.1 1 = .ok (.iload_n 1, 1) := by decide +kernel
theorem d_CF_items_2 : decode Y_CF_items.2.1 2 = .ok (.invokevirtual 243, 3) := by decide +kernel
theorem d_CF_items_5 : decode Y_CF_items.2.1 5 = .ok (.getfield 136, 3) := by decide +kernel
theorem d_CF_items_8 : decode Y_CF_items.2.1 8 = .ok (.ireturn, 1) := by decide +kernel
theorem d_CF_setAt_0 : decode Y_CF_setAt.2.1 0 = .ok (.iload_n 1, 1) := by decide +kernel
theorem d_CF_setAt_1 : decode Y_CF_setAt.2.1 1 = .ok (.ifCond .lt 11, 3) := by decide +kernel
theorem d_CF_setAt_4 : decode Y_CF_setAt.2.1 4 = .ok (.iload_n 1, 1) := by decide +kernel
theorem d_CF_setAt_5 : decode Y_CF_setAt.2.1 5 = .ok (.aload_n 0, 1) := by decide +kernel
theorem d_CF_setAt_6 : decode Y_CF_setAt.2.1 6 = .ok (.getfield 109, 3) := by decide +kernel
theorem d_CF_setAt_9 : decode Y_CF_setAt.2.1 9 = .ok (.if_icmp .le 11, 3) := by decide +kernel
theorem d_CF_setAt_12 : decode Y_CF_setAt.2.1 12 = .ok (.new 240, 3) := by decide +kernel
theorem d_CF_setAt_15 : decode Y_CF_setAt.2.1 15 = .ok (.dup, 1) := by decide +kernel
theorem d_CF_setAt_16 : decode Y_CF_setAt.2.1 16 = .ok (.invokespecial 242, 3) := by decide +kernel
theorem d_CF_setAt_19 : decode Y_CF_setAt.2.1 19 = .ok (.athrow, 1) := by decide +kernel
theorem d_CF_setAt_20 : decode Y_CF_setAt.2.1 20 = .ok (.aload_n 0, 1) := by decide +kernel
theorem d_CF_setAt_21 : decode Y_CF_setAt.2.1 21 = .ok (.getfield 29, 3) := by decide +kernel
theorem d_CF_setAt_24 : decode Y_CF_setAt.2.1 24 = .ok (.iload_n 1, 1) := by decide +kernel
theorem d_CF_setAt_25 : decode Y_CF_setAt.2.1 25 = .ok (.aaload, 1) := by decide +kernel
theorem d_CF_setAt_26 : decode Y_CF_setAt.2.1 26 = .ok (.areturn, 1) := by decide +kernel
theorem d_CF_has_0 : decode Y_CF_has.2.1 0 = .ok (.aload_n 0, 1) := by decide +kernel
theorem d_CF_has_1 : decode Y_CF_has.2.1 1 = .ok (.iload_n 1, 1) := by decide +kernel
theorem d_CF_has_2 : decode Y_CF_has.2.1 2 = .ok (.invokevirtual 243, 3) := by decide +kernel
theorem d_CF_has_5 : decode Y_CF_has.2.1 5 = .ok (.astore 5, 2) := by decide +kernel
theorem d_CF_has_7 : decode Y_CF_has.2.1 7 = .ok (.iload_n 2, 1) := by decide +kernel
theorem d_CF_has_8 : decode Y_CF_has.2.1 8 = .ok (.iconst (-1), 1) := by decide +kernel
theorem d_CF_has_9 : decode Y_CF_has.2.1 9 = .ok (.if_icmp .lt 54, 3) := by decide +kernel
theorem d_CF_has_12 : decode Y_CF_has.2.1 12 = .ok (.iload_n 2, 1) := by decide +kernel
theorem d_CF_has_13 : decode Y_CF_has.2.1 13 = .ok (.aload_n 0, 1) := by decide +kernel
theorem d_CF_has_14 : decode Y_CF_has.2.1 14 = .ok (.getfield 23, 3) := by decide +kernel
theorem d_CF_has_17 : decode Y_CF_has.2.1 17 = .ok (.invokevirtual 105, 3) := by decide +kernel
theorem d_CF_has_20 : decode Y_CF_has.2.1 20 = .ok (.if_icmp .ge 43, 3) := by decide +kernel
theorem d_CF_has_23 : decode Y_CF_has.2.1 23 = .ok (.iload_n 3, 1) := by decide +kernel
theorem d_CF_has_24 : decode Y_CF_has.2.1 24 = .ok (.ifCond .lt 39, 3) := by decide +kernel
theorem d_CF_has_27 : decode Y_CF_has.2.1 27 = .ok (.iload_n 3, 1) := by decide +kernel
theorem d_CF_has_28 : decode Y_CF_has.2.1 28 = .ok (.iconst 4, 1) := by decide +kernel
theorem d_CF_has_29 : decode Y_CF_has.2.1 29 = .ok (.if_icmp .ge 34, 3) := by decide +kernel
theorem d_CF_has_32 : decode Y_CF_has.2.1 32 = .ok (.iload 4, 2) := by decide +kernel
theorem d_CF_has_34 : decode Y_CF_has.2.1 34 = .ok (.ifCond .lt 29, 3) := by decide +kernel
theorem d_CF_has_37 : decode Y_CF_has.2.1 37 = .ok (.iload 4, 2) := by decide +kernel
theorem d_CF_has_39 : decode Y_CF_has.2.1 39 = .ok (.bipush 13, 2) := by decide +kernel
theorem d_CF_has_41 : decode Y_CF_has.2.1 41 = .ok (.if_icmp .ge 22, 3) := by decide +kernel
theorem d_CF_has_44 : decode Y_CF_has.2.1 44 = .ok (.aload 5, 2) := by decide +kernel
theorem d_CF_has_46 : decode Y_CF_has.2.1 46 = .ok (.iload_n 2, 1) := by decide +kernel
theorem d_CF_has_47 : decode Y_CF_has.2.1 47 = .ok (.iload_n 3, 1) := by decide +kernel
theorem d_CF_has_48 : decode Y_CF_has.2.1 48 = .ok (.iload 4, 2) := by decide +kernel
theorem d_CF_has_50 : decode Y_CF_has.2.1 50 = .ok (.invokestatic 77, 3) := by decide +kernel
theorem d_CF_has_53 : decode Y_CF_has.2.1 53 = .ok (.invokevirtual 237, 3) := by decide +kernel
theorem d_CF_has_56 : decode Y_CF_has.2.1 56 = .ok (.ifCond .eq 7, 3) := by decide +kernel
theorem d_CF_has_59 : decode Y_CF_has.2.1 59 = .ok (.iconst 1, 1) := by decide +kernel
theorem d_CF_has_60 : decode Y_CF_has.2.1 60 = .ok (.goto 4, 3) := by decide +kernel
theorem d_CF_has_63 : decode Y_CF_has.2.1 63 = .ok (.iconst 0, 1) := by decide +kernel
theorem d_CF_has_64 : decode Y_CF_has.2.1 64 = .ok (.ireturn, 1) := by decide +kernel
theorem d_CF_leap_0 : decode Y_CF_leap.2.1 0 = .ok (.aload_n 0, 1) := by decide +kernel
theorem d_CF_leap_1 : decode Y_CF_leap.2.1 1 = .ok (.iload_n 1, 1) := by decide +kernel
theorem d_CF_leap_2 : decode Y_CF_leap.2.1 2 = .ok (.invokevirtual 243, 3) := by decide +kernel
theorem d_CF_leap_5 : decode Y_CF_leap.2.1 5 = .ok (.astore_n 3, 1) := by decide +kernel
theorem d_CF_leap_6 : decode Y_CF_leap.2.1 6 = .ok (.iload_n 2, 1) := by decide +kernel
theorem d_CF_leap_7 : decode Y_CF_leap.2.1 7 = .ok (.invokestatic 95, 3) := by decide +kernel
theorem d_CF_leap_10 : decode Y_CF_leap.2.1 10 = .ok (.ifCond .ne 11, 3) := by decide +kernel
theorem d_CF_leap_13 : decode Y_CF_leap.2.1 13 = .ok (.new 240, 3) := by decide +kernel
theorem d_CF_leap_16 : decode Y_CF_leap.2.1 16 = .ok (.dup, 1) := by decide +kernel
theorem d_CF_leap_17 : decode Y_CF_leap.2.1 17 = .ok (.invokespecial 242, 3) := by decide +kernel
theorem d_CF_leap_20 : decode Y_CF_leap.2.1 20 = .ok (.athrow, 1) := by decide +kernel
theorem d_CF_leap_21 : decode Y_CF_leap.2.1 21 = .ok (.iload_n 1, 1) := by decide +kernel
theorem d_CF_leap_22 : decode Y_CF_leap.2.1 22 = .ok (.aload_n 0, 1) := by decide +kernel
theorem d_CF_leap_23 : decode Y_CF_leap.2.1 23 = .ok (.getfield 109, 3) := by decide +kernel
theorem d_CF_leap_26 : decode Y_CF_leap.2.1 26 = .ok (.if_icmp .ne 7, 3) := by decide +kernel
theorem d_CF_leap_29 : decode Y_CF_leap.2.1 29 = .ok (.iconst (-1), 1) := by decide +kernel
theorem d_CF_leap_30 : decode Y_CF_leap.2.1 30 = .ok (.goto 9, 3) := by decide +kernel
theorem d_CF_leap_33 : decode Y_CF_leap.2.1 33 = .ok (.aload_n 3, 1) := by decide +kernel
theorem d_CF_leap_34 : decode Y_CF_leap.2.1 34 = .ok (.getfield 154, 3) := by decide +kernel
theorem d_CF_leap_37 : decode Y_CF_leap.2.1 37 = .ok (.iload_n 2, 1) := by decide +kernel
theorem d_CF_leap_38 : decode Y_CF_leap.2.1 38 = .ok (.iaload, 1) := by decide +kernel
theorem d_CF_leap_39 : decode Y_CF_leap.2.1 39 = .ok (.istore 4, 2) := by decide +kernel
theorem d_CF_leap_41 : decode Y_CF_leap.2.1 41 = .ok (.iload 4, 2) := by decide +kernel
theorem d_CF_leap_43 : decode Y_CF_leap.2.1 43 = .ok (.iconst (-1), 1) := by decide +kernel
theorem d_CF_leap_44 : decode Y_CF_leap.2.1 44 = .ok (.if_icmp .ne 7, 3) := by decide +kernel
theorem d_CF_leap_47 : decode Y_CF_leap.2.1 47 = .ok (.iconst (-1), 1) := by decide +kernel
theorem d_CF_leap_48 : decode Y_CF_leap.2.1 48 = .ok (.goto 29, 3) := by decide +kernel
theorem d_CF_leap_51 : decode Y_CF_leap.2.1 51 = .ok (.sipush 1000, 3) := by decide +kernel
theorem d_CF_leap_54 : decode Y_CF_leap.2.1 54 = .ok (.iload 4, 2) := by decide +kernel
theorem d_CF_leap_56 : decode Y_CF_leap.2.1 56 = .ok (.invokestatic 122, 3) := by decide +kernel
theorem d_CF_leap_59 : decode Y_CF_leap.2.1 59 = .ok (.iconst 1, 1) := by decide +kernel
theorem d_CF_leap_60 : decode Y_CF_leap.2.1 60 = .ok (.iadd, 1) := by decide +kernel
theorem d_CF_leap_61 : decode Y_CF_leap.2.1 61 = .ok (.imul, 1) := by decide +kernel
theorem d_CF_leap_62 : decode Y_CF_leap.2.1 62 = .ok (.bipush 100, 2) := by decide +kernel
theorem d_CF_leap_64 : decode Y_CF_leap.2.1 64 = .ok (.iload 4, 2) := by decide +kernel
theorem d_CF_leap_66 : decode Y_CF_leap.2.1 66 = .ok (.invokestatic 130, 3) := by decide +kernel
theorem d_CF_leap_69 : decode Y_CF_leap.2.1 69 = .ok (.imul, 1) := by decide +kernel
theorem d_CF_leap_70 : decode Y_CF_leap.2.1 70 = .ok (.iadd, 1) := by decide +kernel
theorem d_CF_leap_71 : decode Y_CF_leap.2.1 71 = .ok (.iload 4, 2) := by decide +kernel
theorem d_CF_leap_73 : decode Y_CF_leap.2.1 73 = .ok (.invokestatic 161, 3) := by decide +kernel
theorem d_CF_leap_76 : decode Y_CF_leap.2.1 76 = .ok (.iadd, 1) := by decide +kernel
theorem d_CF_leap_77 : decode Y_CF_leap.2.1 77 = .ok (.ireturn, 1) := by decide +kernel
theorem d_CF_ways_0 : decode Y_CF_ways.2.1 0 = .ok (.aload_n 0, 1) := by decide +kernel
theorem d_CF_ways_1 : decode Y_CF_ways.2.1 1 = .ok (.iload_n 1, 1) := by decide +kernel
theorem d_CF_ways_2 : decode Y_CF_ways.2.1 2 = .ok (.iload_n 2, 1) := by decide +kernel
theorem d_CF_ways_3 : decode Y_CF_ways.2.1 3 = .ok (.iload_n 3, 1) := by decide +kernel
theorem d_CF_ways_4 : decode Y_CF_ways.2.1 4 = .ok (.invokevirtual 247, 3) := by decide +kernel
theorem d_CF_ways_7 : decode Y_CF_ways.2.1 7 = .ok (.iconst 0, 1) := by decide +kernel
theorem d_CF_ways_8 : decode Y_CF_ways.2.1 8 = .ok (.istore 4, 2) := by decide +kernel
theorem d_CF_ways_10 : decode Y_CF_ways.2.1 10 = .ok (.iconst 0, 1) := by decide +kernel
theorem d_CF_ways_11 : decode Y_CF_ways.2.1 11 = .ok (.istore 5, 2) := by decide +kernel
theorem d_CF_ways_13 : decode Y_CF_ways.2.1 13 = .ok (.iload 5, 2) := by decide +kernel
theorem d_CF_ways_15 : decode Y_CF_ways.2.1 15 = .ok (.aload_n 0, 1) := by decide +kernel
theorem d_CF_ways_16 : decode Y_CF_ways.2.1 16 = .ok (.getfield 23, 3) := by decide +kernel
theorem d_CF_ways_19 : decode Y_CF_ways.2.1 19 = .ok (.invokevirtual 105, 3) := by decide +kernel
theorem d_CF_ways_22 : decode Y_CF_ways.2.1 22 = .ok (.if_icmp .ge 66, 3) := by decide +kernel
theorem d_CF_ways_25 : decode Y_CF_ways.2.1 25 = .ok (.aload_n 0, 1) := by decide +kernel
theorem d_CF_ways_26 : decode Y_CF_ways.2.1 26 = .ok (.getfield 23, 3) := by decide +kernel
theorem d_CF_ways_29 : decode Y_CF_ways.2.1 29 = .ok (.iload 5, 2) := by decide +kernel
theorem d_CF_ways_31 : decode Y_CF_ways.2.1 31 = .ok (.invokevirtual 87, 3) := by decide +kernel
theorem d_CF_ways_34 : decode Y_CF_ways.2.1 34 = .ok (.checkcast 9, 3) := by decide +kernel
theorem d_CF_ways_37 : decode Y_CF_ways.2.1 37 = .ok (.getfield 144, 3) := by decide +kernel
theorem d_CF_ways_40 : decode Y_CF_ways.2.1 40 = .ok (.iload_n 1, 1) := by decide +kernel
theorem d_CF_ways_41 : decode Y_CF_ways.2.1 41 = .ok (.if_icmp .ne 41, 3) := by decide +kernel
theorem d_CF_ways_44 : decode Y_CF_ways.2.1 44 = .ok (.aload_n 0, 1) := by decide +kernel
theorem d_CF_ways_45 : decode Y_CF_ways.2.1 45 = .ok (.getfield 46, 3) := by decide +kernel
theorem d_CF_ways_48 : decode Y_CF_ways.2.1 48 = .ok (.aload_n 0, 1) := by decide +kernel
theorem d_CF_ways_49 : decode Y_CF_ways.2.1 49 = .ok (.aload_n 0, 1) := by decide +kernel
theorem d_CF_ways_50 : decode Y_CF_ways.2.1 50 = .ok (.getfield 23, 3) := by decide +kernel
theorem d_CF_ways_53 : decode Y_CF_ways.2.1 53 = .ok (.iload 5, 2) := by decide +kernel
theorem d_CF_ways_55 : decode Y_CF_ways.2.1 55 = .ok (.invokevirtual 87, 3) := by decide +kernel
theorem d_CF_ways_58 : decode Y_CF_ways.2.1 58 = .ok (.checkcast 9, 3) := by decide +kernel
theorem d_CF_ways_61 : decode Y_CF_ways.2.1 61 = .ok (.iload_n 2, 1) := by decide +kernel
theorem d_CF_ways_62 : decode Y_CF_ways.2.1 62 = .ok (.iload_n 3, 1) := by decide +kernel
theorem d_CF_ways_63 : decode Y_CF_ways.2.1 63 = .ok (.invokevirtual 181, 3) := by decide +kernel
theorem d_CF_ways_66 : decode Y_CF_ways.2.1 66 = .ok (.aload_n 0, 1) := by decide +kernel
theorem d_CF_ways_67 : decode Y_CF_ways.2.1 67 = .ok (.getfield 46, 3) := by decide +kernel
theorem d_CF_ways_70 : decode Y_CF_ways.2.1 70 = .ok (.invokevirtual 185, 3) := by decide +kernel
theorem d_CF_ways_73 : decode Y_CF_ways.2.1 73 = .ok (.ifCond .eq 9, 3) := by decide +kernel
theorem d_CF_ways_76 : decode Y_CF_ways.2.1 76 = .ok (.iinc 4 1, 3) := by decide +kernel
theorem d_CF_ways_79 : decode Y_CF_ways.2.1 79 = .ok (.goto (-13), 3) := by decide +kernel
theorem d_CF_ways_82 : decode Y_CF_ways.2.1 82 = .ok (.iinc 5 1, 3) := by decide +kernel
theorem d_CF_ways_85 : decode Y_CF_ways.2.1 85 = .ok (.goto (-72), 3) := by decide +kernel
theorem d_CF_ways_88 : decode Y_CF_ways.2.1 88 = .ok (.iload 4, 2) := by decide +kernel
theorem d_CF_ways_90 : decode Y_CF_ways.2.1 90 = .ok (.ireturn, 1) := by decide +kernel
theorem d_CF_checkStretch_0 : decode Y_CF_checkStretch.2.1 0 = .ok (.iload_n 1, 1) := by decide +kernel
theorem d_CF_checkStretch_1 : decode Y_CF_checkStretch.2.1 1 = .ok (.invokestatic 95, 3) := by decide +kernel
theorem d_CF_checkStretch_4 : decode Y_CF_checkStretch.2.1 4 = .ok (.ifCond .eq 20, 3) := by decide +kernel
theorem d_CF_checkStretch_7 : decode Y_CF_checkStretch.2.1 7 = .ok (.iload_n 2, 1) := by decide +kernel
theorem d_CF_checkStretch_8 : decode Y_CF_checkStretch.2.1 8 = .ok (.ifCond .lt 16, 3) := by decide +kernel
theorem d_CF_checkStretch_11 : decode Y_CF_checkStretch.2.1 11 = .ok (.iload_n 3, 1) := by decide +kernel
theorem d_CF_checkStretch_12 : decode Y_CF_checkStretch.2.1 12 = .ok (.iload_n 2, 1) := by decide +kernel
theorem d_CF_checkStretch_13 : decode Y_CF_checkStretch.2.1 13 = .ok (.if_icmp .lt 11, 3) := by decide +kernel
theorem d_CF_checkStretch_16 : decode Y_CF_checkStretch.2.1 16 = .ok (.iload_n 3, 1) := by decide +kernel
theorem d_CF_checkStretch_17 : decode Y_CF_checkStretch.2.1 17 = .ok (.aload_n 0, 1) := by decide +kernel
theorem d_CF_checkStretch_18 : decode Y_CF_checkStretch.2.1 18 = .ok (.getfield 109, 3) := by decide +kernel
theorem d_CF_checkStretch_21 : decode Y_CF_checkStretch.2.1 21 = .ok (.if_icmp .le 11, 3) := by decide +kernel
theorem d_CF_checkStretch_24 : decode Y_CF_checkStretch.2.1 24 = .ok (.new 240, 3) := by decide +kernel
theorem d_CF_checkStretch_27 : decode Y_CF_checkStretch.2.1 27 = .ok (.dup, 1) := by decide +kernel
theorem d_CF_checkStretch_28 : decode Y_CF_checkStretch.2.1 28 = .ok (.invokespecial 242, 3) := by decide +kernel
theorem d_CF_checkStretch_31 : decode Y_CF_checkStretch.2.1 31 = .ok (.athrow, 1) := by decide +kernel
theorem d_CF_checkStretch_32 : decode Y_CF_checkStretch.2.1 32 = .ok (.return_, 1) := by decide +kernel
theorem d_CF_trees_0 : decode Y_CF_trees.2.1 0 = .ok (.aload_n 0, 1) := by decide +kernel
theorem d_CF_trees_1 : decode Y_CF_trees.2.1 1 = .ok (.iload_n 1, 1) := by decide +kernel
theorem d_CF_trees_2 : decode Y_CF_trees.2.1 2 = .ok (.iload_n 2, 1) := by decide +kernel
theorem d_CF_trees_3 : decode Y_CF_trees.2.1 3 = .ok (.iload_n 3, 1) := by decide +kernel
theorem d_CF_trees_4 : decode Y_CF_trees.2.1 4 = .ok (.invokevirtual 247, 3) := by decide +kernel
theorem d_CF_trees_7 : decode Y_CF_trees.2.1 7 = .ok (.aload_n 0, 1) := by decide +kernel
theorem d_CF_trees_8 : decode Y_CF_trees.2.1 8 = .ok (.getfield 39, 3) := by decide +kernel
theorem d_CF_trees_11 : decode Y_CF_trees.2.1 11 = .ok (.iload_n 3, 1) := by decide +kernel
theorem d_CF_trees_12 : decode Y_CF_trees.2.1 12 = .ok (.aaload, 1) := by decide +kernel
theorem d_CF_trees_13 : decode Y_CF_trees.2.1 13 = .ok (.getfield 195, 3) := by decide +kernel
theorem d_CF_trees_16 : decode Y_CF_trees.2.1 16 = .ok (.iload_n 2, 1) := by decide +kernel
theorem d_CF_trees_17 : decode Y_CF_trees.2.1 17 = .ok (.aaload, 1) := by decide +kernel
theorem d_CF_trees_18 : decode Y_CF_trees.2.1 18 = .ok (.iload_n 1, 1) := by decide +kernel
theorem d_CF_trees_19 : decode Y_CF_trees.2.1 19 = .ok (.laload, 1) := by decide +kernel
theorem d_CF_trees_20 : decode Y_CF_trees.2.1 20 = .ok (.lreturn, 1) := by decide +kernel
theorem d_CF_tree_0 : decode Y_CF_tree.2.1 0 = .ok (.aload_n 0, 1) := by decide +kernel
theorem d_CF_tree_1 : decode Y_CF_tree.2.1 1 = .ok (.getfield 39, 3) := by decide +kernel
theorem d_CF_tree_4 : decode Y_CF_tree.2.1 4 = .ok (.aload_n 0, 1) := by decide +kernel
theorem d_CF_tree_5 : decode Y_CF_tree.2.1 5 = .ok (.getfield 109, 3) := by decide +kernel
theorem d_CF_tree_8 : decode Y_CF_tree.2.1 8 = .ok (.aaload, 1) := by decide +kernel
theorem d_CF_tree_9 : decode Y_CF_tree.2.1 9 = .ok (.getfield 195, 3) := by decide +kernel
theorem d_CF_tree_12 : decode Y_CF_tree.2.1 12 = .ok (.iconst 0, 1) := by decide +kernel
theorem d_CF_tree_13 : decode Y_CF_tree.2.1 13 = .ok (.aaload, 1) := by decide +kernel
theorem d_CF_tree_14 : decode Y_CF_tree.2.1 14 = .ok (.iconst 0, 1) := by decide +kernel
theorem d_CF_tree_15 : decode Y_CF_tree.2.1 15 = .ok (.laload, 1) := by decide +kernel
theorem d_CF_tree_16 : decode Y_CF_tree.2.1 16 = .ok (.lstore 4, 2) := by decide +kernel
theorem d_CF_tree_18 : decode Y_CF_tree.2.1 18 = .ok (.lload 4, 2) := by decide +kernel
theorem d_CF_tree_20 : decode Y_CF_tree.2.1 20 = .ok (.ldc2_w 199, 3) := by decide +kernel
theorem d_CF_tree_23 : decode Y_CF_tree.2.1 23 = .ok (.lcmp, 1) := by decide +kernel
theorem d_CF_tree_24 : decode Y_CF_tree.2.1 24 = .ok (.ifCond .eq 29, 3) := by decide +kernel
theorem d_CF_tree_27 : decode Y_CF_tree.2.1 27 = .ok (.lload 4, 2) := by decide +kernel
theorem d_CF_tree_29 : decode Y_CF_tree.2.1 29 = .ok (.ldc2_w 202, 3) := by decide +kernel
theorem d_CF_tree_32 : decode Y_CF_tree.2.1 32 = .ok (.lcmp, 1) := by decide +kernel
theorem d_CF_tree_33 : decode Y_CF_tree.2.1 33 = .ok (.ifCond .ge 20, 3) := by decide +kernel
theorem d_CF_tree_36 : decode Y_CF_tree.2.1 36 = .ok (.lload_n 1, 1) := by decide +kernel
theorem d_CF_tree_37 : decode Y_CF_tree.2.1 37 = .ok (.lconst 0, 1) := by decide +kernel
theorem d_CF_tree_38 : decode Y_CF_tree.2.1 38 = .ok (.lcmp, 1) := by decide +kernel
theorem d_CF_tree_39 : decode Y_CF_tree.2.1 39 = .ok (.ifCond .lt 14, 3) := by decide +kernel
theorem d_CF_tree_42 : decode Y_CF_tree.2.1 42 = .ok (.lload_n 1, 1) := by decide +kernel
theorem d_CF_tree_43 : decode Y_CF_tree.2.1 43 = .ok (.lload 4, 2) := by decide +kernel
theorem d_CF_tree_45 : decode Y_CF_tree.2.1 45 = .ok (.lcmp, 1) := by decide +kernel
theorem d_CF_tree_46 : decode Y_CF_tree.2.1 46 = .ok (.ifCond .ge 7, 3) := by decide +kernel
theorem d_CF_tree_49 : decode Y_CF_tree.2.1 49 = .ok (.iload_n 3, 1) := by decide +kernel
theorem d_CF_tree_50 : decode Y_CF_tree.2.1 50 = .ok (.ifCond .ge 11, 3) := by decide +kernel
theorem d_CF_tree_53 : decode Y_CF_tree.2.1 53 = .ok (.new 175, 3) := by decide +kernel
theorem d_CF_tree_56 : decode Y_CF_tree.2.1 56 = .ok (.dup, 1) := by decide +kernel
theorem d_CF_tree_57 : decode Y_CF_tree.2.1 57 = .ok (.invokespecial 177, 3) := by decide +kernel
theorem d_CF_tree_60 : decode Y_CF_tree.2.1 60 = .ok (.athrow, 1) := by decide +kernel
theorem d_CF_tree_61 : decode Y_CF_tree.2.1 61 = .ok (.aload_n 0, 1) := by decide +kernel
theorem d_CF_tree_62 : decode Y_CF_tree.2.1 62 = .ok (.getfield 56, 3) := by decide +kernel
theorem d_CF_tree_65 : decode Y_CF_tree.2.1 65 = .ok (.iconst 0, 1) := by decide +kernel
theorem d_CF_tree_66 : decode Y_CF_tree.2.1 66 = .ok (.putfield 278, 3) := by decide +kernel
theorem d_CF_tree_69 : decode Y_CF_tree.2.1 69 = .ok (.aload_n 0, 1) := by decide +kernel
theorem d_CF_tree_70 : decode Y_CF_tree.2.1 70 = .ok (.getfield 56, 3) := by decide +kernel
theorem d_CF_tree_73 : decode Y_CF_tree.2.1 73 = .ok (.iconst 0, 1) := by decide +kernel
theorem d_CF_tree_74 : decode Y_CF_tree.2.1 74 = .ok (.iconst 0, 1) := by decide +kernel
theorem d_CF_tree_75 : decode Y_CF_tree.2.1 75 = .ok (.aload_n 0, 1) := by decide +kernel
theorem d_CF_tree_76 : decode Y_CF_tree.2.1 76 = .ok (.getfield 109, 3) := by decide +kernel
theorem d_CF_tree_79 : decode Y_CF_tree.2.1 79 = .ok (.lload_n 1, 1) := by decide +kernel
theorem d_CF_tree_80 : decode Y_CF_tree.2.1 80 = .ok (.invokevirtual 283, 3) := by decide +kernel
theorem d_CF_tree_83 : decode Y_CF_tree.2.1 83 = .ok (.iconst 0, 1) := by decide +kernel
theorem d_CF_tree_84 : decode Y_CF_tree.2.1 84 = .ok (.istore 6, 2) := by decide +kernel
theorem d_CF_tree_86 : decode Y_CF_tree.2.1 86 = .ok (.aload_n 0, 1) := by decide +kernel
theorem d_CF_tree_87 : decode Y_CF_tree.2.1 87 = .ok (.getfield 56, 3) := by decide +kernel
theorem d_CF_tree_90 : decode Y_CF_tree.2.1 90 = .ok (.getfield 278, 3) := by decide +kernel
theorem d_CF_tree_93 : decode Y_CF_tree.2.1 93 = .ok (.ifCond .le 24, 3) := by decide +kernel
theorem d_CF_tree_96 : decode Y_CF_tree.2.1 96 = .ok (.aload_n 0, 1) := by decide +kernel
theorem d_CF_tree_97 : decode Y_CF_tree.2.1 97 = .ok (.invokevirtual 290, 3) := by decide +kernel
theorem d_CF_tree_100 : decode Y_CF_tree.2.1 100 = .ok (.istore 7, 2) := by decide +kernel
theorem d_CF_tree_102 : decode Y_CF_tree.2.1 102 = .ok (.iload 6, 2) := by decide +kernel
theorem d_CF_tree_104 : decode Y_CF_tree.2.1 104 = .ok (.iload_n 3, 1) := by decide +kernel
theorem d_CF_tree_105 : decode Y_CF_tree.2.1 105 = .ok (.if_icmp .ne 6, 3) := by decide +kernel
theorem d_CF_tree_108 : decode Y_CF_tree.2.1 108 = .ok (.iload 7, 2) := by decide +kernel
theorem d_CF_tree_110 : decode Y_CF_tree.2.1 110 = .ok (.ireturn, 1) := by decide +kernel
theorem d_CF_tree_111 : decode Y_CF_tree.2.1 111 = .ok (.iinc 6 1, 3) := by decide +kernel
theorem d_CF_tree_114 : decode Y_CF_tree.2.1 114 = .ok (.goto (-28), 3) := by decide +kernel
theorem d_CF_tree_117 : decode Y_CF_tree.2.1 117 = .ok (.new 175, 3) := by decide +kernel
theorem d_CF_tree_120 : decode Y_CF_tree.2.1 120 = .ok (.dup, 1) := by decide +kernel
theorem d_CF_tree_121 : decode Y_CF_tree.2.1 121 = .ok (.invokespecial 177, 3) := by decide +kernel
theorem d_CF_tree_124 : decode Y_CF_tree.2.1 124 = .ok (.athrow, 1) := by decide +kernel
theorem d_St_push_0 : decode Y_St_push.2.1 0 = .ok (.aload_n 0, 1) := by decide +kernel
theorem d_St_push_1 : decode Y_St_push.2.1 1 = .ok (.getfield 23, 3) := by decide +kernel
theorem d_St_push_4 : decode Y_St_push.2.1 4 = .ok (.aload_n 0, 1) := by decide +kernel
theorem d_St_push_5 : decode Y_St_push.2.1 5 = .ok (.getfield 7, 3) := by decide +kernel
theorem d_St_push_8 : decode Y_St_push.2.1 8 = .ok (.arraylength, 1) := by decide +kernel
theorem d_St_push_9 : decode Y_St_push.2.1 9 = .ok (.if_icmp .lt 4, 3) := by decide +kernel
theorem d_St_push_12 : decode Y_St_push.2.1 12 = .ok (.return_, 1) := by decide +kernel
theorem d_St_push_13 : decode Y_St_push.2.1 13 = .ok (.aload_n 0, 1) := by decide +kernel
theorem d_St_push_14 : decode Y_St_push.2.1 14 = .ok (.getfield 7, 3) := by decide +kernel
theorem d_St_push_17 : decode Y_St_push.2.1 17 = .ok (.aload_n 0, 1) := by decide +kernel
theorem d_St_push_18 : decode Y_St_push.2.1 18 = .ok (.getfield 23, 3) := by decide +kernel
theorem d_St_push_21 : decode Y_St_push.2.1 21 = .ok (.iload_n 1, 1) := by decide +kernel
theorem d_St_push_22 : decode Y_St_push.2.1 22 = .ok (.iastore, 1) := by decide +kernel
theorem d_St_push_23 : decode Y_St_push.2.1 23 = .ok (.aload_n 0, 1) := by decide +kernel
theorem d_St_push_24 : decode Y_St_push.2.1 24 = .ok (.getfield 13, 3) := by decide +kernel
theorem d_St_push_27 : decode Y_St_push.2.1 27 = .ok (.aload_n 0, 1) := by decide +kernel
theorem d_St_push_28 : decode Y_St_push.2.1 28 = .ok (.getfield 23, 3) := by decide +kernel
theorem d_St_push_31 : decode Y_St_push.2.1 31 = .ok (.iload_n 2, 1) := by decide +kernel
theorem d_St_push_32 : decode Y_St_push.2.1 32 = .ok (.iastore, 1) := by decide +kernel
theorem d_St_push_33 : decode Y_St_push.2.1 33 = .ok (.aload_n 0, 1) := by decide +kernel
theorem d_St_push_34 : decode Y_St_push.2.1 34 = .ok (.getfield 16, 3) := by decide +kernel
theorem d_St_push_37 : decode Y_St_push.2.1 37 = .ok (.aload_n 0, 1) := by decide +kernel
theorem d_St_push_38 : decode Y_St_push.2.1 38 = .ok (.getfield 23, 3) := by decide +kernel
theorem d_St_push_41 : decode Y_St_push.2.1 41 = .ok (.iload_n 3, 1) := by decide +kernel
theorem d_St_push_42 : decode Y_St_push.2.1 42 = .ok (.iastore, 1) := by decide +kernel
theorem d_St_push_43 : decode Y_St_push.2.1 43 = .ok (.aload_n 0, 1) := by decide +kernel
theorem d_St_push_44 : decode Y_St_push.2.1 44 = .ok (.getfield 19, 3) := by decide +kernel
theorem d_St_push_47 : decode Y_St_push.2.1 47 = .ok (.aload_n 0, 1) := by decide +kernel
theorem d_St_push_48 : decode Y_St_push.2.1 48 = .ok (.getfield 23, 3) := by decide +kernel
theorem d_St_push_51 : decode Y_St_push.2.1 51 = .ok (.lload 4, 2) := by decide +kernel
theorem d_St_push_53 : decode Y_St_push.2.1 53 = .ok (.lastore, 1) := by decide +kernel
theorem d_St_push_54 : decode Y_St_push.2.1 54 = .ok (.aload_n 0, 1) := by decide +kernel
theorem d_St_push_55 : decode Y_St_push.2.1 55 = .ok (.dup, 1) := by decide +kernel
theorem d_St_push_56 : decode Y_St_push.2.1 56 = .ok (.getfield 23, 3) := by decide +kernel
theorem d_St_push_59 : decode Y_St_push.2.1 59 = .ok (.iconst 1, 1) := by decide +kernel
theorem d_St_push_60 : decode Y_St_push.2.1 60 = .ok (.iadd, 1) := by decide +kernel
theorem d_St_push_61 : decode Y_St_push.2.1 61 = .ok (.putfield 23, 3) := by decide +kernel
theorem d_St_push_64 : decode Y_St_push.2.1 64 = .ok (.return_, 1) := by decide +kernel
theorem d_CF_unfold_0 : decode Y_CF_unfold.2.1 0 = .ok (.aload_n 0, 1) := by decide +kernel
theorem d_CF_unfold_1 : decode Y_CF_unfold.2.1 1 = .ok (.getfield 56, 3) := by decide +kernel
theorem d_CF_unfold_4 : decode Y_CF_unfold.2.1 4 = .ok (.dup, 1) := by decide +kernel
theorem d_CF_unfold_5 : decode Y_CF_unfold.2.1 5 = .ok (.getfield 278, 3) := by decide +kernel
theorem d_CF_unfold_8 : decode Y_CF_unfold.2.1 8 = .ok (.iconst 1, 1) := by decide +kernel
theorem d_CF_unfold_9 : decode Y_CF_unfold.2.1 9 = .ok (.isub, 1) := by decide +kernel
theorem d_CF_unfold_10 : decode Y_CF_unfold.2.1 10 = .ok (.putfield 278, 3) := by decide +kernel
theorem d_CF_unfold_13 : decode Y_CF_unfold.2.1 13 = .ok (.aload_n 0, 1) := by decide +kernel
theorem d_CF_unfold_14 : decode Y_CF_unfold.2.1 14 = .ok (.aload_n 0, 1) := by decide +kernel
theorem d_CF_unfold_15 : decode Y_CF_unfold.2.1 15 = .ok (.getfield 56, 3) := by decide +kernel
theorem d_CF_unfold_18 : decode Y_CF_unfold.2.1 18 = .ok (.getfield 278, 3) := by decide +kernel
theorem d_CF_unfold_21 : decode Y_CF_unfold.2.1 21 = .ok (.invokevirtual 279, 3) := by decide +kernel
theorem d_CF_unfold_24 : decode Y_CF_unfold.2.1 24 = .ok (.lstore_n 1, 1) := by decide +kernel
theorem d_CF_unfold_25 : decode Y_CF_unfold.2.1 25 = .ok (.aload_n 0, 1) := by decide +kernel
theorem d_CF_unfold_26 : decode Y_CF_unfold.2.1 26 = .ok (.getfield 50, 3) := by decide +kernel
theorem d_CF_unfold_29 : decode Y_CF_unfold.2.1 29 = .ok (.getfield 204, 3) := by decide +kernel
theorem d_CF_unfold_32 : decode Y_CF_unfold.2.1 32 = .ok (.getfield 189, 3) := by decide +kernel
theorem d_CF_unfold_35 : decode Y_CF_unfold.2.1 35 = .ok (.arraylength, 1) := by decide +kernel
theorem d_CF_unfold_36 : decode Y_CF_unfold.2.1 36 = .ok (.iconst 1, 1) := by decide +kernel
theorem d_CF_unfold_37 : decode Y_CF_unfold.2.1 37 = .ok (.isub, 1) := by decide +kernel
theorem d_CF_unfold_38 : decode Y_CF_unfold.2.1 38 = .ok (.istore_n 3, 1) := by decide +kernel
theorem d_CF_unfold_39 : decode Y_CF_unfold.2.1 39 = .ok (.iload_n 3, 1) := by decide +kernel
theorem d_CF_unfold_40 : decode Y_CF_unfold.2.1 40 = .ok (.ifCond .lt 97, 3) := by decide +kernel
theorem d_CF_unfold_43 : decode Y_CF_unfold.2.1 43 = .ok (.aload_n 0, 1) := by decide +kernel
theorem d_CF_unfold_44 : decode Y_CF_unfold.2.1 44 = .ok (.getfield 50, 3) := by decide +kernel
theorem d_CF_unfold_47 : decode Y_CF_unfold.2.1 47 = .ok (.getfield 204, 3) := by decide +kernel
theorem d_CF_unfold_50 : decode Y_CF_unfold.2.1 50 = .ok (.getfield 189, 3) := by decide +kernel
theorem d_CF_unfold_53 : decode Y_CF_unfold.2.1 53 = .ok (.iload_n 3, 1) := by decide +kernel
theorem d_CF_unfold_54 : decode Y_CF_unfold.2.1 54 = .ok (.iaload, 1) := by decide +kernel
theorem d_CF_unfold_55 : decode Y_CF_unfold.2.1 55 = .ok (.istore 4, 2) := by decide +kernel
theorem d_CF_unfold_57 : decode Y_CF_unfold.2.1 57 = .ok (.iload 4, 2) := by decide +kernel
theorem d_CF_unfold_59 : decode Y_CF_unfold.2.1 59 = .ok (.invokestatic 95, 3) := by decide +kernel
theorem d_CF_unfold_62 : decode Y_CF_unfold.2.1 62 = .ok (.ifCond .eq 69, 3) := by decide +kernel
theorem d_CF_unfold_65 : decode Y_CF_unfold.2.1 65 = .ok (.aload_n 0, 1) := by decide +kernel
theorem d_CF_unfold_66 : decode Y_CF_unfold.2.1 66 = .ok (.iload 4, 2) := by decide +kernel
theorem d_CF_unfold_68 : decode Y_CF_unfold.2.1 68 = .ok (.aload_n 0, 1) := by decide +kernel
theorem d_CF_unfold_69 : decode Y_CF_unfold.2.1 69 = .ok (.getfield 50, 3) := by decide +kernel
theorem d_CF_unfold_72 : decode Y_CF_unfold.2.1 72 = .ok (.getfield 192, 3) := by decide +kernel
theorem d_CF_unfold_75 : decode Y_CF_unfold.2.1 75 = .ok (.iload_n 3, 1) := by decide +kernel
theorem d_CF_unfold_76 : decode Y_CF_unfold.2.1 76 = .ok (.iaload, 1) := by decide +kernel
theorem d_CF_unfold_77 : decode Y_CF_unfold.2.1 77 = .ok (.aload_n 0, 1) := by decide +kernel
theorem d_CF_unfold_78 : decode Y_CF_unfold.2.1 78 = .ok (.getfield 50, 3) := by decide +kernel
theorem d_CF_unfold_81 : decode Y_CF_unfold.2.1 81 = .ok (.getfield 192, 3) := by decide +kernel
theorem d_CF_unfold_84 : decode Y_CF_unfold.2.1 84 = .ok (.iload_n 3, 1) := by decide +kernel
theorem d_CF_unfold_85 : decode Y_CF_unfold.2.1 85 = .ok (.iconst 1, 1) := by decide +kernel
theorem d_CF_unfold_86 : decode Y_CF_unfold.2.1 86 = .ok (.iadd, 1) := by decide +kernel
theorem d_CF_unfold_87 : decode Y_CF_unfold.2.1 87 = .ok (.iaload, 1) := by decide +kernel
theorem d_CF_unfold_88 : decode Y_CF_unfold.2.1 88 = .ok (.invokevirtual 207, 3) := by decide +kernel
theorem d_CF_unfold_91 : decode Y_CF_unfold.2.1 91 = .ok (.lstore 5, 2) := by decide +kernel
theorem d_CF_unfold_93 : decode Y_CF_unfold.2.1 93 = .ok (.aload_n 0, 1) := by decide +kernel
theorem d_CF_unfold_94 : decode Y_CF_unfold.2.1 94 = .ok (.getfield 56, 3) := by decide +kernel
theorem d_CF_unfold_97 : decode Y_CF_unfold.2.1 97 = .ok (.iload 4, 2) := by decide +kernel
theorem d_CF_unfold_99 : decode Y_CF_unfold.2.1 99 = .ok (.aload_n 0, 1) := by decide +kernel
theorem d_CF_unfold_100 : decode Y_CF_unfold.2.1 100 = .ok (.getfield 50, 3) := by decide +kernel
theorem d_CF_unfold_103 : decode Y_CF_unfold.2.1 103 = .ok (.getfield 192, 3) := by decide +kernel
theorem d_CF_unfold_106 : decode Y_CF_unfold.2.1 106 = .ok (.iload_n 3, 1) := by decide +kernel
theorem d_CF_unfold_107 : decode Y_CF_unfold.2.1 107 = .ok (.iaload, 1) := by decide +kernel
theorem d_CF_unfold_108 : decode Y_CF_unfold.2.1 108 = .ok (.aload_n 0, 1) := by decide +kernel
theorem d_CF_unfold_109 : decode Y_CF_unfold.2.1 109 = .ok (.getfield 50, 3) := by decide +kernel
theorem d_CF_unfold_112 : decode Y_CF_unfold.2.1 112 = .ok (.getfield 192, 3) := by decide +kernel
theorem d_CF_unfold_115 : decode Y_CF_unfold.2.1 115 = .ok (.iload_n 3, 1) := by decide +kernel
theorem d_CF_unfold_116 : decode Y_CF_unfold.2.1 116 = .ok (.iconst 1, 1) := by decide +kernel
theorem d_CF_unfold_117 : decode Y_CF_unfold.2.1 117 = .ok (.iadd, 1) := by decide +kernel
theorem d_CF_unfold_118 : decode Y_CF_unfold.2.1 118 = .ok (.iaload, 1) := by decide +kernel
theorem d_CF_unfold_119 : decode Y_CF_unfold.2.1 119 = .ok (.lload_n 1, 1) := by decide +kernel
theorem d_CF_unfold_120 : decode Y_CF_unfold.2.1 120 = .ok (.lload 5, 2) := by decide +kernel
theorem d_CF_unfold_122 : decode Y_CF_unfold.2.1 122 = .ok (.lrem, 1) := by decide +kernel
theorem d_CF_unfold_123 : decode Y_CF_unfold.2.1 123 = .ok (.invokevirtual 283, 3) := by decide +kernel
theorem d_CF_unfold_126 : decode Y_CF_unfold.2.1 126 = .ok (.lload_n 1, 1) := by decide +kernel
theorem d_CF_unfold_127 : decode Y_CF_unfold.2.1 127 = .ok (.lload 5, 2) := by decide +kernel
theorem d_CF_unfold_129 : decode Y_CF_unfold.2.1 129 = .ok (.ldiv, 1) := by decide +kernel
theorem d_CF_unfold_130 : decode Y_CF_unfold.2.1 130 = .ok (.lstore_n 1, 1) := by decide +kernel
theorem d_CF_unfold_131 : decode Y_CF_unfold.2.1 131 = .ok (.iinc 3 (-1), 3) := by decide +kernel
theorem d_CF_unfold_134 : decode Y_CF_unfold.2.1 134 = .ok (.goto (-95), 3) := by decide +kernel
theorem d_CF_unfold_137 : decode Y_CF_unfold.2.1 137 = .ok (.aload_n 0, 1) := by decide +kernel
theorem d_CF_unfold_138 : decode Y_CF_unfold.2.1 138 = .ok (.getfield 50, 3) := by decide +kernel
theorem d_CF_unfold_141 : decode Y_CF_unfold.2.1 141 = .ok (.getfield 204, 3) := by decide +kernel
theorem d_CF_unfold_144 : decode Y_CF_unfold.2.1 144 = .ok (.getfield 287, 3) := by decide +kernel
theorem d_CF_unfold_147 : decode Y_CF_unfold.2.1 147 = .ok (.ireturn, 1) := by decide +kernel
theorem d_CF_findWay_0 : decode Y_CF_findWay.2.1 0 = .ok (.aload_n 0, 1) := by decide +kernel
theorem d_CF_findWay_1 : decode Y_CF_findWay.2.1 1 = .ok (.getfield 56, 3) := by decide +kernel
theorem d_CF_findWay_4 : decode Y_CF_findWay.2.1 4 = .ok (.getfield 266, 3) := by decide +kernel
theorem d_CF_findWay_7 : decode Y_CF_findWay.2.1 7 = .ok (.iload_n 1, 1) := by decide +kernel
theorem d_CF_findWay_8 : decode Y_CF_findWay.2.1 8 = .ok (.laload, 1) := by decide +kernel
theorem d_CF_findWay_9 : decode Y_CF_findWay.2.1 9 = .ok (.lstore_n 2, 1) := by decide +kernel
theorem d_CF_findWay_10 : decode Y_CF_findWay.2.1 10 = .ok (.iconst 0, 1) := by decide +kernel
theorem d_CF_findWay_11 : decode Y_CF_findWay.2.1 11 = .ok (.istore 4, 2) := by decide +kernel
theorem d_CF_findWay_13 : decode Y_CF_findWay.2.1 13 = .ok (.iload 4, 2) := by decide +kernel
theorem d_CF_findWay_15 : decode Y_CF_findWay.2.1 15 = .ok (.aload_n 0, 1) := by decide +kernel
theorem d_CF_findWay_16 : decode Y_CF_findWay.2.1 16 = .ok (.getfield 23, 3) := by decide +kernel
theorem d_CF_findWay_19 : decode Y_CF_findWay.2.1 19 = .ok (.invokevirtual 105, 3) := by decide +kernel
theorem d_CF_findWay_22 : decode Y_CF_findWay.2.1 22 = .ok (.if_icmp .ge 111, 3) := by decide +kernel
theorem d_CF_findWay_25 : decode Y_CF_findWay.2.1 25 = .ok (.aload_n 0, 1) := by decide +kernel
theorem d_CF_findWay_26 : decode Y_CF_findWay.2.1 26 = .ok (.getfield 23, 3) := by decide +kernel
theorem d_CF_findWay_29 : decode Y_CF_findWay.2.1 29 = .ok (.iload 4, 2) := by decide +kernel
theorem d_CF_findWay_31 : decode Y_CF_findWay.2.1 31 = .ok (.invokevirtual 87, 3) := by decide +kernel
theorem d_CF_findWay_34 : decode Y_CF_findWay.2.1 34 = .ok (.checkcast 9, 3) := by decide +kernel
theorem d_CF_findWay_37 : decode Y_CF_findWay.2.1 37 = .ok (.getfield 144, 3) := by decide +kernel
theorem d_CF_findWay_40 : decode Y_CF_findWay.2.1 40 = .ok (.aload_n 0, 1) := by decide +kernel
theorem d_CF_findWay_41 : decode Y_CF_findWay.2.1 41 = .ok (.getfield 56, 3) := by decide +kernel
theorem d_CF_findWay_44 : decode Y_CF_findWay.2.1 44 = .ok (.getfield 269, 3) := by decide +kernel
theorem d_CF_findWay_47 : decode Y_CF_findWay.2.1 47 = .ok (.iload_n 1, 1) := by decide +kernel
theorem d_CF_findWay_48 : decode Y_CF_findWay.2.1 48 = .ok (.iaload, 1) := by decide +kernel
theorem d_CF_findWay_49 : decode Y_CF_findWay.2.1 49 = .ok (.if_icmp .ne 78, 3) := by decide +kernel
theorem d_CF_findWay_52 : decode Y_CF_findWay.2.1 52 = .ok (.aload_n 0, 1) := by decide +kernel
theorem d_CF_findWay_53 : decode Y_CF_findWay.2.1 53 = .ok (.getfield 50, 3) := by decide +kernel
theorem d_CF_findWay_56 : decode Y_CF_findWay.2.1 56 = .ok (.aload_n 0, 1) := by decide +kernel
theorem d_CF_findWay_57 : decode Y_CF_findWay.2.1 57 = .ok (.aload_n 0, 1) := by decide +kernel
theorem d_CF_findWay_58 : decode Y_CF_findWay.2.1 58 = .ok (.getfield 23, 3) := by decide +kernel
theorem d_CF_findWay_61 : decode Y_CF_findWay.2.1 61 = .ok (.iload 4, 2) := by decide +kernel
theorem d_CF_findWay_63 : decode Y_CF_findWay.2.1 63 = .ok (.invokevirtual 87, 3) := by decide +kernel
theorem d_CF_findWay_66 : decode Y_CF_findWay.2.1 66 = .ok (.checkcast 9, 3) := by decide +kernel
theorem d_CF_findWay_69 : decode Y_CF_findWay.2.1 69 = .ok (.aload_n 0, 1) := by decide +kernel
theorem d_CF_findWay_70 : decode Y_CF_findWay.2.1 70 = .ok (.getfield 56, 3) := by decide +kernel
theorem d_CF_findWay_73 : decode Y_CF_findWay.2.1 73 = .ok (.getfield 272, 3) := by decide +kernel
theorem d_CF_findWay_76 : decode Y_CF_findWay.2.1 76 = .ok (.iload_n 1, 1) := by decide +kernel
theorem d_CF_findWay_77 : decode Y_CF_findWay.2.1 77 = .ok (.iaload, 1) := by decide +kernel
theorem d_CF_findWay_78 : decode Y_CF_findWay.2.1 78 = .ok (.aload_n 0, 1) := by decide +kernel
theorem d_CF_findWay_79 : decode Y_CF_findWay.2.1 79 = .ok (.getfield 56, 3) := by decide +kernel
theorem d_CF_findWay_82 : decode Y_CF_findWay.2.1 82 = .ok (.getfield 275, 3) := by decide +kernel
theorem d_CF_findWay_85 : decode Y_CF_findWay.2.1 85 = .ok (.iload_n 1, 1) := by decide +kernel
theorem d_CF_findWay_86 : decode Y_CF_findWay.2.1 86 = .ok (.iaload, 1) := by decide +kernel
theorem d_CF_findWay_87 : decode Y_CF_findWay.2.1 87 = .ok (.invokevirtual 181, 3) := by decide +kernel
theorem d_CF_findWay_90 : decode Y_CF_findWay.2.1 90 = .ok (.aload_n 0, 1) := by decide +kernel
theorem d_CF_findWay_91 : decode Y_CF_findWay.2.1 91 = .ok (.getfield 50, 3) := by decide +kernel
theorem d_CF_findWay_94 : decode Y_CF_findWay.2.1 94 = .ok (.invokevirtual 185, 3) := by decide +kernel
theorem d_CF_findWay_97 : decode Y_CF_findWay.2.1 97 = .ok (.ifCond .eq 30, 3) := by decide +kernel
theorem d_CF_findWay_100 : decode Y_CF_findWay.2.1 100 = .ok (.aload_n 0, 1) := by decide +kernel
theorem d_CF_findWay_101 : decode Y_CF_findWay.2.1 101 = .ok (.aload_n 0, 1) := by decide +kernel
theorem d_CF_findWay_102 : decode Y_CF_findWay.2.1 102 = .ok (.getfield 50, 3) := by decide +kernel
theorem d_CF_findWay_105 : decode Y_CF_findWay.2.1 105 = .ok (.invokevirtual 215, 3) := by decide +kernel
theorem d_CF_findWay_108 : decode Y_CF_findWay.2.1 108 = .ok (.lstore 5, 2) := by decide +kernel
theorem d_CF_findWay_110 : decode Y_CF_findWay.2.1 110 = .ok (.lload_n 2, 1) := by decide +kernel
theorem d_CF_findWay_111 : decode Y_CF_findWay.2.1 111 = .ok (.lload 5, 2) := by decide +kernel
theorem d_CF_findWay_113 : decode Y_CF_findWay.2.1 113 = .ok (.lcmp, 1) := by decide +kernel
theorem d_CF_findWay_114 : decode Y_CF_findWay.2.1 114 = .ok (.ifCond .ge 5, 3) := by decide +kernel
theorem d_CF_findWay_117 : decode Y_CF_findWay.2.1 117 = .ok (.lload_n 2, 1) := by decide +kernel
theorem d_CF_findWay_118 : decode Y_CF_findWay.2.1 118 = .ok (.lreturn, 1) := by decide +kernel
theorem d_CF_findWay_119 : decode Y_CF_findWay.2.1 119 = .ok (.lload_n 2, 1) := by decide +kernel
theorem d_CF_findWay_120 : decode Y_CF_findWay.2.1 120 = .ok (.lload 5, 2) := by decide +kernel
theorem d_CF_findWay_122 : decode Y_CF_findWay.2.1 122 = .ok (.lsub, 1) := by decide +kernel
theorem d_CF_findWay_123 : decode Y_CF_findWay.2.1 123 = .ok (.lstore_n 2, 1) := by decide +kernel
theorem d_CF_findWay_124 : decode Y_CF_findWay.2.1 124 = .ok (.goto (-34), 3) := by decide +kernel
theorem d_CF_findWay_127 : decode Y_CF_findWay.2.1 127 = .ok (.iinc 4 1, 3) := by decide +kernel
theorem d_CF_findWay_130 : decode Y_CF_findWay.2.1 130 = .ok (.goto (-117), 3) := by decide +kernel
theorem d_CF_findWay_133 : decode Y_CF_findWay.2.1 133 = .ok (.new 175, 3) := by decide +kernel
theorem d_CF_findWay_136 : decode Y_CF_findWay.2.1 136 = .ok (.dup, 1) := by decide +kernel
theorem d_CF_findWay_137 : decode Y_CF_findWay.2.1 137 = .ok (.invokespecial 177, 3) := by decide +kernel
theorem d_CF_findWay_140 : decode Y_CF_findWay.2.1 140 = .ok (.athrow, 1) := by decide +kernel
theorem d_AL_init_0 : decode Y_AL_init.2.1 0 = .ok (.aload_n 0, 1) := by decide +kernel
theorem d_AL_init_1 : decode Y_AL_init.2.1 1 = .ok (.invokespecial 1, 3) := by decide +kernel
theorem d_AL_init_4 : decode Y_AL_init.2.1 4 = .ok (.aload_n 0, 1) := by decide +kernel
theorem d_AL_init_5 : decode Y_AL_init.2.1 5 = .ok (.iconst 0, 1) := by decide +kernel
theorem d_AL_init_6 : decode Y_AL_init.2.1 6 = .ok (.putfield 7, 3) := by decide +kernel
theorem d_AL_init_9 : decode Y_AL_init.2.1 9 = .ok (.return_, 1) := by decide +kernel
theorem d_AC_init_0 : decode Y_AC_init.2.1 0 = .ok (.aload_n 0, 1) := by decide +kernel
theorem d_AC_init_1 : decode Y_AC_init.2.1 1 = .ok (.invokespecial 1, 3) := by decide +kernel
theorem d_AC_init_4 : decode Y_AC_init.2.1 4 = .ok (.return_, 1) := by decide +kernel
theorem ii_La : Cond.initialized "ChartForestLaw" ∈ tb := tb_in (List.mem_of_getElem? (i := 57) (by decide +kernel)) rfl
theorem ii_CF : Cond.initialized "ChartForest" ∈ tb := tb_in (List.mem_of_getElem? (i := 58) (by decide +kernel)) rfl
theorem ii_Ru : Cond.initialized "ChartForest$Rule" ∈ tb := tb_in (List.mem_of_getElem? (i := 59) (by decide +kernel)) rfl
theorem ii_AC : Cond.initialized "java/util/AbstractCollection" ∈ tb := tb_in (List.mem_of_getElem? (i := 60) (by decide +kernel)) rfl
theorem ii_AL : Cond.initialized "java/util/AbstractList" ∈ tb := tb_in (List.mem_of_getElem? (i := 61) (by decide +kernel)) rfl
theorem ii_Al : Cond.initialized "java/util/ArrayList" ∈ tb := tb_in (List.mem_of_getElem? (i := 62) (by decide +kernel)) rfl
theorem ii_Wa : Cond.initialized "ChartForest$Walker" ∈ tb := tb_in (List.mem_of_getElem? (i := 63) (by decide +kernel)) rfl
theorem ii_St : Cond.initialized "ChartForest$Stack" ∈ tb := tb_in (List.mem_of_getElem? (i := 64) (by decide +kernel)) rfl
theorem ii_Se : Cond.initialized "ChartForest$ItemSet" ∈ tb := tb_in (List.mem_of_getElem? (i := 65) (by decide +kernel)) rfl
theorem ii_Co : Cond.initialized "ChartForest$Column" ∈ tb := tb_in (List.mem_of_getElem? (i := 66) (by decide +kernel)) rfl
theorem ii_Os : Cond.initialized "java/util/Objects" ∈ tb := tb_in (List.mem_of_getElem? (i := 67) (by decide +kernel)) rfl
theorem ii_Pr : Cond.initialized "jdk/internal/util/Preconditions" ∈ tb := tb_in (List.mem_of_getElem? (i := 68) (by decide +kernel)) rfl
theorem ii_Mo : Cond.initialized "ChartForestModel" ∈ tb := tb_in (List.mem_of_getElem? (i := 69) (by decide +kernel)) rfl
theorem ii_Ma : Cond.initialized "java/lang/Math" ∈ tb := tb_in (List.mem_of_getElem? (i := 76) (by decide +kernel)) rfl
theorem ii_In : Cond.initialized "java/lang/Integer" ∈ tb := tb_in (List.mem_of_getElem? (i := 81) (by decide +kernel)) rfl
theorem cl_La_8 : Cond.classLink "ChartForestLaw" 8 "ChartForest" ∈ tb := tb_in (List.mem_of_getElem? (i := 82) (by decide +kernel)) rfl
theorem in_CF : Cond.instantiable "ChartForest" 12 ∈ tb := tb_in (List.mem_of_getElem? (i := 83) (by decide +kernel)) rfl
theorem cl_CF_9 : Cond.classLink "ChartForest" 9 "ChartForest$Rule" ∈ tb := tb_in (List.mem_of_getElem? (i := 90) (by decide +kernel)) rfl
theorem in_Ru : Cond.instantiable "ChartForest$Rule" 3 ∈ tb := tb_in (List.mem_of_getElem? (i := 91) (by decide +kernel)) rfl
theorem cl_CF_18 : Cond.classLink "ChartForest" 18 "java/util/ArrayList" ∈ tb := tb_in (List.mem_of_getElem? (i := 111) (by decide +kernel)) rfl
theorem in_Al : Cond.instantiable "java/util/ArrayList" 3 ∈ tb := tb_in (List.mem_of_getElem? (i := 112) (by decide +kernel)) rfl
theorem cl_Al_7 : Cond.classLink "java/util/ArrayList" 7 "java/lang/Object" ∈ tb := tb_in (List.mem_of_getElem? (i := 123) (by decide +kernel)) rfl
theorem cl_CF_27 : Cond.classLink "ChartForest" 27 "ChartForest$ItemSet" ∈ tb := tb_in (List.mem_of_getElem? (i := 139) (by decide +kernel)) rfl
theorem cl_CF_37 : Cond.classLink "ChartForest" 37 "ChartForest$Column" ∈ tb := tb_in (List.mem_of_getElem? (i := 141) (by decide +kernel)) rfl
theorem cl_CF_43 : Cond.classLink "ChartForest" 43 "ChartForest$Walker" ∈ tb := tb_in (List.mem_of_getElem? (i := 143) (by decide +kernel)) rfl
theorem in_Wa : Cond.instantiable "ChartForest$Walker" 5 ∈ tb := tb_in (List.mem_of_getElem? (i := 144) (by decide +kernel)) rfl
theorem cl_CF_53 : Cond.classLink "ChartForest" 53 "ChartForest$Stack" ∈ tb := tb_in (List.mem_of_getElem? (i := 167) (by decide +kernel)) rfl
theorem in_St : Cond.instantiable "ChartForest$Stack" 5 ∈ tb := tb_in (List.mem_of_getElem? (i := 168) (by decide +kernel)) rfl
theorem cl_CF_63 : Cond.classLink "ChartForest" 63 "[[Z" ∈ tb := tb_in (List.mem_of_getElem? (i := 195) (by decide +kernel)) rfl
theorem in_Se : Cond.instantiable "ChartForest$ItemSet" 5 ∈ tb := tb_in (List.mem_of_getElem? (i := 197) (by decide +kernel)) rfl
theorem in_Co : Cond.instantiable "ChartForest$Column" 2 ∈ tb := tb_in (List.mem_of_getElem? (i := 224) (by decide +kernel)) rfl
theorem cl_Co_15 : Cond.classLink "ChartForest$Column" 15 "[[J" ∈ tb := tb_in (List.mem_of_getElem? (i := 229) (by decide +kernel)) rfl
theorem cl_La_13 : Cond.classLink "ChartForestLaw" 13 "java/lang/IllegalArgumentException" ∈ tb := tb_in (List.mem_of_getElem? (i := 415) (by decide +kernel)) rfl
theorem cl_La_15 : Cond.classLink "ChartForestLaw" 15 "java/lang/IllegalStateException" ∈ tb := tb_in (List.mem_of_getElem? (i := 416) (by decide +kernel)) rfl
theorem cl_CF_99 : Cond.classLink "ChartForest" 99 "java/lang/IllegalArgumentException" ∈ tb := tb_in (List.mem_of_getElem? (i := 421) (by decide +kernel)) rfl
theorem cl_CF_113 : Cond.classLink "ChartForest" 113 "java/lang/IllegalStateException" ∈ tb := tb_in (List.mem_of_getElem? (i := 485) (by decide +kernel)) rfl
theorem cl_La_21 : Cond.classLink "ChartForestLaw" 21 "java/util/NoSuchElementException" ∈ tb := tb_in (List.mem_of_getElem? (i := 607) (by decide +kernel)) rfl
theorem cl_CF_175 : Cond.classLink "ChartForest" 175 "java/util/NoSuchElementException" ∈ tb := tb_in (List.mem_of_getElem? (i := 613) (by decide +kernel)) rfl
theorem cl_La_29 : Cond.classLink "ChartForestLaw" 29 "java/lang/IndexOutOfBoundsException" ∈ tb := tb_in (List.mem_of_getElem? (i := 638) (by decide +kernel)) rfl
theorem cl_CF_240 : Cond.classLink "ChartForest" 240 "java/lang/IndexOutOfBoundsException" ∈ tb := tb_in (List.mem_of_getElem? (i := 647) (by decide +kernel)) rfl
theorem cl_La_59 : Cond.classLink "ChartForestLaw" 59 "ChartForestModel" ∈ tb := tb_in (List.mem_of_getElem? (i := 713) (by decide +kernel)) rfl
theorem in_Mo : Cond.instantiable "ChartForestModel" 19 ∈ tb := tb_in (List.mem_of_getElem? (i := 714) (by decide +kernel)) rfl
theorem ca_Ru : Cond.castable "ChartForest$Rule" "ChartForest$Rule" ∈ nst := nst_in (List.mem_of_getElem? (i := 968) (by decide +kernel)) rfl
theorem ca_RuO : Cond.castable "ChartForest$Rule" "java/lang/Object" ∈ nst := nst_in (List.mem_of_getElem? (i := 973) (by decide +kernel)) rfl
