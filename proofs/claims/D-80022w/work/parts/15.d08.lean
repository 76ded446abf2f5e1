/-! decode rows (by a program) -/
set_option maxRecDepth 100000
theorem dX13_work_0 : decode cX13_work 0 = .ok (.iconst 0, 1) := by decide +kernel
theorem dX13_work_1 : decode cX13_work 1 = .ok (.istore_n 3, 1) := by decide +kernel
theorem dX13_work_2 : decode cX13_work 2 = .ok (.iload_n 1, 1) := by decide +kernel
theorem dX13_work_3 : decode cX13_work 3 = .ok (.istore 4, 2) := by decide +kernel
theorem dX13_work_5 : decode cX13_work 5 = .ok (.aload_n 0, 1) := by decide +kernel
theorem dX13_work_6 : decode cX13_work 6 = .ok (.getfield 57, 3) := by decide +kernel
theorem dX13_work_9 : decode cX13_work 9 = .ok (.iload 4, 2) := by decide +kernel
theorem dX13_work_11 : decode cX13_work 11 = .ok (.iaload, 1) := by decide +kernel
theorem dX13_work_12 : decode cX13_work 12 = .ok (.iconst 4, 1) := by decide +kernel
theorem dX13_work_13 : decode cX13_work 13 = .ok (.if_icmp .eq 155, 3) := by decide +kernel
theorem dX13_work_16 : decode cX13_work 16 = .ok (.aload_n 0, 1) := by decide +kernel
theorem dX13_work_17 : decode cX13_work 17 = .ok (.getfield 329, 3) := by decide +kernel
theorem dX13_work_20 : decode cX13_work 20 = .ok (.ifCond .ne 148, 3) := by decide +kernel
theorem dX13_work_23 : decode cX13_work 23 = .ok (.aload_n 0, 1) := by decide +kernel
theorem dX13_work_24 : decode cX13_work 24 = .ok (.getfield 57, 3) := by decide +kernel
theorem dX13_work_27 : decode cX13_work 27 = .ok (.iload 4, 2) := by decide +kernel
theorem dX13_work_29 : decode cX13_work 29 = .ok (.iaload, 1) := by decide +kernel
theorem dX13_work_30 : decode cX13_work 30 = .ok (.istore 5, 2) := by decide +kernel
theorem dX13_work_32 : decode cX13_work 32 = .ok (.iload 5, 2) := by decide +kernel
theorem dX13_work_34 : decode cX13_work 34 = .ok (.iconst 1, 1) := by decide +kernel
theorem dX13_work_35 : decode cX13_work 35 = .ok (.if_icmp .ne 22, 3) := by decide +kernel
theorem dX13_work_38 : decode cX13_work 38 = .ok (.aload_n 0, 1) := by decide +kernel
theorem dX13_work_39 : decode cX13_work 39 = .ok (.getfield 149, 3) := by decide +kernel
theorem dX13_work_42 : decode cX13_work 42 = .ok (.iload_n 3, 1) := by decide +kernel
theorem dX13_work_43 : decode cX13_work 43 = .ok (.aload_n 0, 1) := by decide +kernel
theorem dX13_work_44 : decode cX13_work 44 = .ok (.getfield 63, 3) := by decide +kernel
theorem dX13_work_47 : decode cX13_work 47 = .ok (.iload 4, 2) := by decide +kernel
theorem dX13_work_49 : decode cX13_work 49 = .ok (.laload, 1) := by decide +kernel
theorem dX13_work_50 : decode cX13_work 50 = .ok (.lastore, 1) := by decide +kernel
theorem dX13_work_51 : decode cX13_work 51 = .ok (.iinc 3 1, 3) := by decide +kernel
theorem dX13_work_54 : decode cX13_work 54 = .ok (.goto 108, 3) := by decide +kernel
theorem dX13_work_57 : decode cX13_work 57 = .ok (.iload 5, 2) := by decide +kernel
theorem dX13_work_59 : decode cX13_work 59 = .ok (.iconst 2, 1) := by decide +kernel
theorem dX13_work_60 : decode cX13_work 60 = .ok (.if_icmp .ne 45, 3) := by decide +kernel
theorem dX13_work_63 : decode cX13_work 63 = .ok (.aload_n 0, 1) := by decide +kernel
theorem dX13_work_64 : decode cX13_work 64 = .ok (.getfield 149, 3) := by decide +kernel
theorem dX13_work_67 : decode cX13_work 67 = .ok (.iload_n 3, 1) := by decide +kernel
theorem dX13_work_68 : decode cX13_work 68 = .ok (.iload_n 2, 1) := by decide +kernel
theorem dX13_work_69 : decode cX13_work 69 = .ok (.ifCond .eq 18, 3) := by decide +kernel
theorem dX13_work_72 : decode cX13_work 72 = .ok (.aload_n 0, 1) := by decide +kernel
theorem dX13_work_73 : decode cX13_work 73 = .ok (.getfield 152, 3) := by decide +kernel
theorem dX13_work_76 : decode cX13_work 76 = .ok (.aload_n 0, 1) := by decide +kernel
theorem dX13_work_77 : decode cX13_work 77 = .ok (.getfield 60, 3) := by decide +kernel
theorem dX13_work_80 : decode cX13_work 80 = .ok (.iload 4, 2) := by decide +kernel
theorem dX13_work_82 : decode cX13_work 82 = .ok (.iaload, 1) := by decide +kernel
theorem dX13_work_83 : decode cX13_work 83 = .ok (.laload, 1) := by decide +kernel
theorem dX13_work_84 : decode cX13_work 84 = .ok (.goto 14, 3) := by decide +kernel
theorem dX13_work_87 : decode cX13_work 87 = .ok (.aload_n 0, 1) := by decide +kernel
theorem dX13_work_88 : decode cX13_work 88 = .ok (.aload_n 0, 1) := by decide +kernel
theorem dX13_work_89 : decode cX13_work 89 = .ok (.getfield 60, 3) := by decide +kernel
theorem dX13_work_92 : decode cX13_work 92 = .ok (.iload 4, 2) := by decide +kernel
theorem dX13_work_94 : decode cX13_work 94 = .ok (.iaload, 1) := by decide +kernel
theorem dX13_work_95 : decode cX13_work 95 = .ok (.invokevirtual 332, 3) := by decide +kernel
theorem dX13_work_98 : decode cX13_work 98 = .ok (.lastore, 1) := by decide +kernel
theorem dX13_work_99 : decode cX13_work 99 = .ok (.iinc 3 1, 3) := by decide +kernel
theorem dX13_work_102 : decode cX13_work 102 = .ok (.goto 60, 3) := by decide +kernel
theorem dX13_work_105 : decode cX13_work 105 = .ok (.iload 5, 2) := by decide +kernel
theorem dX13_work_107 : decode cX13_work 107 = .ok (.iconst 3, 1) := by decide +kernel
theorem dX13_work_108 : decode cX13_work 108 = .ok (.if_icmp .ne 23, 3) := by decide +kernel
theorem dX13_work_111 : decode cX13_work 111 = .ok (.aload_n 0, 1) := by decide +kernel
theorem dX13_work_112 : decode cX13_work 112 = .ok (.getfield 149, 3) := by decide +kernel
theorem dX13_work_115 : decode cX13_work 115 = .ok (.iload_n 3, 1) := by decide +kernel
theorem dX13_work_116 : decode cX13_work 116 = .ok (.iconst 1, 1) := by decide +kernel
theorem dX13_work_117 : decode cX13_work 117 = .ok (.isub, 1) := by decide +kernel
theorem dX13_work_118 : decode cX13_work 118 = .ok (.aload_n 0, 1) := by decide +kernel
theorem dX13_work_119 : decode cX13_work 119 = .ok (.getfield 149, 3) := by decide +kernel
theorem dX13_work_122 : decode cX13_work 122 = .ok (.iload_n 3, 1) := by decide +kernel
theorem dX13_work_123 : decode cX13_work 123 = .ok (.iconst 1, 1) := by decide +kernel
theorem dX13_work_124 : decode cX13_work 124 = .ok (.isub, 1) := by decide +kernel
theorem dX13_work_125 : decode cX13_work 125 = .ok (.laload, 1) := by decide +kernel
theorem dX13_work_126 : decode cX13_work 126 = .ok (.lneg, 1) := by decide +kernel
theorem dX13_work_127 : decode cX13_work 127 = .ok (.lastore, 1) := by decide +kernel
theorem dX13_work_128 : decode cX13_work 128 = .ok (.goto 34, 3) := by decide +kernel
theorem dX13_work_131 : decode cX13_work 131 = .ok (.iinc 3 (-1), 3) := by decide +kernel
theorem dX13_work_134 : decode cX13_work 134 = .ok (.aload_n 0, 1) := by decide +kernel
theorem dX13_work_135 : decode cX13_work 135 = .ok (.getfield 149, 3) := by decide +kernel
theorem dX13_work_138 : decode cX13_work 138 = .ok (.iload_n 3, 1) := by decide +kernel
theorem dX13_work_139 : decode cX13_work 139 = .ok (.iconst 1, 1) := by decide +kernel
theorem dX13_work_140 : decode cX13_work 140 = .ok (.isub, 1) := by decide +kernel
theorem dX13_work_141 : decode cX13_work 141 = .ok (.aload_n 0, 1) := by decide +kernel
theorem dX13_work_142 : decode cX13_work 142 = .ok (.iload 5, 2) := by decide +kernel
theorem dX13_work_144 : decode cX13_work 144 = .ok (.aload_n 0, 1) := by decide +kernel
theorem dX13_work_145 : decode cX13_work 145 = .ok (.getfield 149, 3) := by decide +kernel
theorem dX13_work_148 : decode cX13_work 148 = .ok (.iload_n 3, 1) := by decide +kernel
theorem dX13_work_149 : decode cX13_work 149 = .ok (.iconst 1, 1) := by decide +kernel
theorem dX13_work_150 : decode cX13_work 150 = .ok (.isub, 1) := by decide +kernel
theorem dX13_work_151 : decode cX13_work 151 = .ok (.laload, 1) := by decide +kernel
theorem dX13_work_152 : decode cX13_work 152 = .ok (.aload_n 0, 1) := by decide +kernel
theorem dX13_work_153 : decode cX13_work 153 = .ok (.getfield 149, 3) := by decide +kernel
theorem dX13_work_156 : decode cX13_work 156 = .ok (.iload_n 3, 1) := by decide +kernel
theorem dX13_work_157 : decode cX13_work 157 = .ok (.laload, 1) := by decide +kernel
theorem dX13_work_158 : decode cX13_work 158 = .ok (.invokevirtual 336, 3) := by decide +kernel
theorem dX13_work_161 : decode cX13_work 161 = .ok (.lastore, 1) := by decide +kernel
theorem dX13_work_162 : decode cX13_work 162 = .ok (.iinc 4 1, 3) := by decide +kernel
theorem dX13_work_165 : decode cX13_work 165 = .ok (.goto (-160), 3) := by decide +kernel
theorem dX13_work_168 : decode cX13_work 168 = .ok (.aload_n 0, 1) := by decide +kernel
theorem dX13_work_169 : decode cX13_work 169 = .ok (.getfield 329, 3) := by decide +kernel
theorem dX13_work_172 : decode cX13_work 172 = .ok (.ifCond .ne 12, 3) := by decide +kernel
theorem dX13_work_175 : decode cX13_work 175 = .ok (.aload_n 0, 1) := by decide +kernel
theorem dX13_work_176 : decode cX13_work 176 = .ok (.getfield 149, 3) := by decide +kernel
theorem dX13_work_179 : decode cX13_work 179 = .ok (.iconst 0, 1) := by decide +kernel
theorem dX13_work_180 : decode cX13_work 180 = .ok (.laload, 1) := by decide +kernel
theorem dX13_work_181 : decode cX13_work 181 = .ok (.goto 4, 3) := by decide +kernel
theorem dX13_work_184 : decode cX13_work 184 = .ok (.lconst 0, 1) := by decide +kernel
theorem dX13_work_185 : decode cX13_work 185 = .ok (.lreturn, 1) := by decide +kernel
theorem dX14_init_0 : decode cX14_init 0 = .ok (.aload_n 0, 1) := by decide +kernel
theorem dX14_init_1 : decode cX14_init 1 = .ok (.invokespecial 1, 3) := by decide +kernel
theorem dX14_init_4 : decode cX14_init 4 = .ok (.return_, 1) := by decide +kernel
theorem dX15_init_0 : decode cX15_init 0 = .ok (.aload_n 0, 1) := by decide +kernel
theorem dX15_init_1 : decode cX15_init 1 = .ok (.invokespecial 1, 3) := by decide +kernel
theorem dX15_init_4 : decode cX15_init 4 = .ok (.return_, 1) := by decide +kernel
theorem dX16_init_0 : decode cX16_init 0 = .ok (.aload_n 0, 1) := by decide +kernel
theorem dX16_init_1 : decode cX16_init 1 = .ok (.invokespecial 1, 3) := by decide +kernel
theorem dX16_init_4 : decode cX16_init 4 = .ok (.return_, 1) := by decide +kernel
theorem dJ0_init_0 : decode cJ0_init 0 = .ok (.aload_n 0, 1) := by decide +kernel
theorem dJ0_init_1 : decode cJ0_init 1 = .ok (.invokespecial 1, 3) := by decide +kernel
theorem dJ0_init_4 : decode cJ0_init 4 = .ok (.aload_n 0, 1) := by decide +kernel
theorem dJ0_init_5 : decode cJ0_init 5 = .ok (.aload_n 0, 1) := by decide +kernel
theorem dJ0_init_6 : decode cJ0_init 6 = .ok (.putfield 7, 3) := by decide +kernel
theorem dJ0_init_9 : decode cJ0_init 9 = .ok (.aload_n 0, 1) := by decide +kernel
theorem dJ0_init_10 : decode cJ0_init 10 = .ok (.getstatic 13, 3) := by decide +kernel
theorem dJ0_init_13 : decode cJ0_init 13 = .ok (.putfield 17, 3) := by decide +kernel
theorem dJ0_init_16 : decode cJ0_init 16 = .ok (.aload_n 0, 1) := by decide +kernel
theorem dJ0_init_17 : decode cJ0_init 17 = .ok (.getstatic 20, 3) := by decide +kernel
theorem dJ0_init_20 : decode cJ0_init 20 = .ok (.putfield 24, 3) := by decide +kernel
theorem dJ0_init_23 : decode cJ0_init 23 = .ok (.aload_n 0, 1) := by decide +kernel
theorem dJ0_init_24 : decode cJ0_init 24 = .ok (.invokevirtual 27, 3) := by decide +kernel
theorem dJ0_init_27 : decode cJ0_init 27 = .ok (.pop, 1) := by decide +kernel
theorem dJ0_init_28 : decode cJ0_init 28 = .ok (.return_, 1) := by decide +kernel
theorem dJ0_init_2_0 : decode cJ0_init_2 0 = .ok (.aload_n 0, 1) := by decide +kernel
theorem dJ0_init_2_1 : decode cJ0_init_2 1 = .ok (.invokespecial 1, 3) := by decide +kernel
theorem dJ0_init_2_4 : decode cJ0_init_2 4 = .ok (.aload_n 0, 1) := by decide +kernel
theorem dJ0_init_2_5 : decode cJ0_init_2 5 = .ok (.aload_n 0, 1) := by decide +kernel
theorem dJ0_init_2_6 : decode cJ0_init_2 6 = .ok (.putfield 7, 3) := by decide +kernel
theorem dJ0_init_2_9 : decode cJ0_init_2 9 = .ok (.aload_n 0, 1) := by decide +kernel
theorem dJ0_init_2_10 : decode cJ0_init_2 10 = .ok (.getstatic 13, 3) := by decide +kernel
theorem dJ0_init_2_13 : decode cJ0_init_2 13 = .ok (.putfield 17, 3) := by decide +kernel
theorem dJ0_init_2_16 : decode cJ0_init_2 16 = .ok (.aload_n 0, 1) := by decide +kernel
theorem dJ0_init_2_17 : decode cJ0_init_2 17 = .ok (.getstatic 20, 3) := by decide +kernel
theorem dJ0_init_2_20 : decode cJ0_init_2 20 = .ok (.putfield 24, 3) := by decide +kernel
theorem dJ0_init_2_23 : decode cJ0_init_2 23 = .ok (.iload 4, 2) := by decide +kernel
theorem dJ0_init_2_25 : decode cJ0_init_2 25 = .ok (.ifCond .eq 11, 3) := by decide +kernel
theorem dJ0_init_2_28 : decode cJ0_init_2 28 = .ok (.aload_n 0, 1) := by decide +kernel
theorem dJ0_init_2_29 : decode cJ0_init_2 29 = .ok (.invokevirtual 27, 3) := by decide +kernel
theorem dJ0_init_2_32 : decode cJ0_init_2 32 = .ok (.pop, 1) := by decide +kernel
theorem dJ0_init_2_33 : decode cJ0_init_2 33 = .ok (.goto 8, 3) := by decide +kernel
theorem dJ0_init_2_36 : decode cJ0_init_2 36 = .ok (.aload_n 0, 1) := by decide +kernel
theorem dJ0_init_2_37 : decode cJ0_init_2 37 = .ok (.aconst_null, 1) := by decide +kernel
theorem dJ0_init_2_38 : decode cJ0_init_2 38 = .ok (.putfield 17, 3) := by decide +kernel
theorem dJ0_init_2_41 : decode cJ0_init_2 41 = .ok (.aload_n 0, 1) := by decide +kernel
theorem dJ0_init_2_42 : decode cJ0_init_2 42 = .ok (.aload_n 1, 1) := by decide +kernel
theorem dJ0_init_2_43 : decode cJ0_init_2 43 = .ok (.putfield 31, 3) := by decide +kernel
theorem dJ0_init_2_46 : decode cJ0_init_2 46 = .ok (.aload_n 0, 1) := by decide +kernel
theorem dJ0_init_2_47 : decode cJ0_init_2 47 = .ok (.aload_n 2, 1) := by decide +kernel
theorem dJ0_init_2_48 : decode cJ0_init_2 48 = .ok (.putfield 7, 3) := by decide +kernel
theorem dJ0_init_2_51 : decode cJ0_init_2 51 = .ok (.iload_n 3, 1) := by decide +kernel
theorem dJ0_init_2_52 : decode cJ0_init_2 52 = .ok (.ifCond .ne 8, 3) := by decide +kernel
theorem dJ0_init_2_55 : decode cJ0_init_2 55 = .ok (.aload_n 0, 1) := by decide +kernel
theorem dJ0_init_2_56 : decode cJ0_init_2 56 = .ok (.aconst_null, 1) := by decide +kernel
theorem dJ0_init_2_57 : decode cJ0_init_2 57 = .ok (.putfield 24, 3) := by decide +kernel
theorem dJ0_init_2_60 : decode cJ0_init_2 60 = .ok (.return_, 1) := by decide +kernel
theorem dJ1_init_0 : decode cJ1_init 0 = .ok (.aload_n 0, 1) := by decide +kernel
theorem dJ1_init_1 : decode cJ1_init 1 = .ok (.aload_n 1, 1) := by decide +kernel
theorem dJ1_init_2 : decode cJ1_init 2 = .ok (.aload_n 2, 1) := by decide +kernel
theorem dJ1_init_3 : decode cJ1_init 3 = .ok (.iload_n 3, 1) := by decide +kernel
theorem dJ1_init_4 : decode cJ1_init 4 = .ok (.iload 4, 2) := by decide +kernel
theorem dJ1_init_6 : decode cJ1_init 6 = .ok (.invokespecial 16, 3) := by decide +kernel
theorem dJ1_init_9 : decode cJ1_init 9 = .ok (.return_, 1) := by decide +kernel
theorem dJ2_init_0 : decode cJ2_init 0 = .ok (.aload_n 0, 1) := by decide +kernel
theorem dJ2_init_1 : decode cJ2_init 1 = .ok (.aload_n 1, 1) := by decide +kernel
theorem dJ2_init_2 : decode cJ2_init 2 = .ok (.aload_n 2, 1) := by decide +kernel
theorem dJ2_init_3 : decode cJ2_init 3 = .ok (.iload_n 3, 1) := by decide +kernel
theorem dJ2_init_4 : decode cJ2_init 4 = .ok (.iload 4, 2) := by decide +kernel
theorem dJ2_init_6 : decode cJ2_init 6 = .ok (.invokespecial 16, 3) := by decide +kernel
theorem dJ2_init_9 : decode cJ2_init 9 = .ok (.return_, 1) := by decide +kernel
theorem dJ3_ordinal_0 : decode cJ3_ordinal 0 = .ok (.aload_n 0, 1) := by decide +kernel
theorem dJ3_ordinal_1 : decode cJ3_ordinal 1 = .ok (.getfield 7, 3) := by decide +kernel
theorem dJ3_ordinal_4 : decode cJ3_ordinal 4 = .ok (.ireturn, 1) := by decide +kernel
theorem dJ4_charAt_0 : decode cJ4_charAt 0 = .ok (.aload_n 0, 1) := by decide +kernel
theorem dJ4_charAt_1 : decode cJ4_charAt 1 = .ok (.invokevirtual 492, 3) := by decide +kernel
theorem dJ4_charAt_4 : decode cJ4_charAt 4 = .ok (.ifCond .eq 12, 3) := by decide +kernel
theorem dJ4_charAt_7 : decode cJ4_charAt 7 = .ok (.aload_n 0, 1) := by decide +kernel
theorem dJ4_charAt_8 : decode cJ4_charAt 8 = .ok (.getfield 9, 3) := by decide +kernel
theorem dJ4_charAt_11 : decode cJ4_charAt 11 = .ok (.iload_n 1, 1) := by decide +kernel
theorem dJ4_charAt_12 : decode cJ4_charAt 12 = .ok (.invokestatic 495, 3) := by decide +kernel
theorem dJ4_charAt_15 : decode cJ4_charAt 15 = .ok (.ireturn, 1) := by decide +kernel
theorem dJ4_charAt_16 : decode cJ4_charAt 16 = .ok (.aload_n 0, 1) := by decide +kernel
theorem dJ4_charAt_17 : decode cJ4_charAt 17 = .ok (.getfield 9, 3) := by decide +kernel
theorem dJ4_charAt_20 : decode cJ4_charAt 20 = .ok (.iload_n 1, 1) := by decide +kernel
theorem dJ4_charAt_21 : decode cJ4_charAt 21 = .ok (.invokestatic 498, 3) := by decide +kernel
theorem dJ4_charAt_24 : decode cJ4_charAt 24 = .ok (.ireturn, 1) := by decide +kernel
theorem dJ4_checkBoundsBeginEnd_0 : decode cJ4_checkBoundsBeginEnd 0 = .ok (.iload_n 0, 1) := by decide +kernel
theorem dJ4_checkBoundsBeginEnd_1 : decode cJ4_checkBoundsBeginEnd 1 = .ok (.iload_n 1, 1) := by decide +kernel
theorem dJ4_checkBoundsBeginEnd_2 : decode cJ4_checkBoundsBeginEnd 2 = .ok (.iload_n 2, 1) := by decide +kernel
theorem dJ4_checkBoundsBeginEnd_3 : decode cJ4_checkBoundsBeginEnd 3 = .ok (.getstatic 1053, 3) := by decide +kernel
theorem dJ4_checkBoundsBeginEnd_6 : decode cJ4_checkBoundsBeginEnd 6 = .ok (.invokestatic 1062, 3) := by decide +kernel
theorem dJ4_checkBoundsBeginEnd_9 : decode cJ4_checkBoundsBeginEnd 9 = .ok (.pop, 1) := by decide +kernel
theorem dJ4_checkBoundsBeginEnd_10 : decode cJ4_checkBoundsBeginEnd 10 = .ok (.return_, 1) := by decide +kernel
theorem dJ4_checkIndex_0 : decode cJ4_checkIndex 0 = .ok (.iload_n 0, 1) := by decide +kernel
theorem dJ4_checkIndex_1 : decode cJ4_checkIndex 1 = .ok (.iload_n 1, 1) := by decide +kernel
theorem dJ4_checkIndex_2 : decode cJ4_checkIndex 2 = .ok (.getstatic 1053, 3) := by decide +kernel
theorem dJ4_checkIndex_5 : decode cJ4_checkIndex 5 = .ok (.invokestatic 1059, 3) := by decide +kernel
theorem dJ4_checkIndex_8 : decode cJ4_checkIndex 8 = .ok (.pop, 1) := by decide +kernel
theorem dJ4_checkIndex_9 : decode cJ4_checkIndex 9 = .ok (.return_, 1) := by decide +kernel
theorem dJ4_coder_0 : decode cJ4_coder 0 = .ok (.getstatic 38, 3) := by decide +kernel
theorem dJ4_coder_3 : decode cJ4_coder 3 = .ok (.ifCond .eq 10, 3) := by decide +kernel
theorem dJ4_coder_6 : decode cJ4_coder 6 = .ok (.aload_n 0, 1) := by decide +kernel
theorem dJ4_coder_7 : decode cJ4_coder 7 = .ok (.getfield 15, 3) := by decide +kernel
theorem dJ4_coder_10 : decode cJ4_coder 10 = .ok (.goto 4, 3) := by decide +kernel
theorem dJ4_coder_13 : decode cJ4_coder 13 = .ok (.iconst 1, 1) := by decide +kernel
theorem dJ4_coder_14 : decode cJ4_coder 14 = .ok (.ireturn, 1) := by decide +kernel
theorem dJ4_indexOf_0 : decode cJ4_indexOf 0 = .ok (.aload_n 0, 1) := by decide +kernel
theorem dJ4_indexOf_1 : decode cJ4_indexOf 1 = .ok (.iload_n 1, 1) := by decide +kernel
theorem dJ4_indexOf_2 : decode cJ4_indexOf 2 = .ok (.iconst 0, 1) := by decide +kernel
theorem dJ4_indexOf_3 : decode cJ4_indexOf 3 = .ok (.invokevirtual 633, 3) := by decide +kernel
theorem dJ4_indexOf_6 : decode cJ4_indexOf 6 = .ok (.ireturn, 1) := by decide +kernel
theorem dJ4_indexOf_2_0 : decode cJ4_indexOf_2 0 = .ok (.aload_n 0, 1) := by decide +kernel
theorem dJ4_indexOf_2_1 : decode cJ4_indexOf_2 1 = .ok (.invokevirtual 492, 3) := by decide +kernel
theorem dJ4_indexOf_2_4 : decode cJ4_indexOf_2 4 = .ok (.ifCond .eq 19, 3) := by decide +kernel
theorem dJ4_indexOf_2_7 : decode cJ4_indexOf_2 7 = .ok (.aload_n 0, 1) := by decide +kernel
theorem dJ4_indexOf_2_8 : decode cJ4_indexOf_2 8 = .ok (.getfield 9, 3) := by decide +kernel
theorem dJ4_indexOf_2_11 : decode cJ4_indexOf_2 11 = .ok (.iload_n 1, 1) := by decide +kernel
theorem dJ4_indexOf_2_12 : decode cJ4_indexOf_2 12 = .ok (.iload_n 2, 1) := by decide +kernel
theorem dJ4_indexOf_2_13 : decode cJ4_indexOf_2 13 = .ok (.aload_n 0, 1) := by decide +kernel
theorem dJ4_indexOf_2_14 : decode cJ4_indexOf_2 14 = .ok (.invokevirtual 505, 3) := by decide +kernel
theorem dJ4_indexOf_2_17 : decode cJ4_indexOf_2 17 = .ok (.invokestatic 637, 3) := by decide +kernel
theorem dJ4_indexOf_2_20 : decode cJ4_indexOf_2 20 = .ok (.goto 16, 3) := by decide +kernel
theorem dJ4_indexOf_2_23 : decode cJ4_indexOf_2 23 = .ok (.aload_n 0, 1) := by decide +kernel
theorem dJ4_indexOf_2_24 : decode cJ4_indexOf_2 24 = .ok (.getfield 9, 3) := by decide +kernel
theorem dJ4_indexOf_2_27 : decode cJ4_indexOf_2 27 = .ok (.iload_n 1, 1) := by decide +kernel
theorem dJ4_indexOf_2_28 : decode cJ4_indexOf_2 28 = .ok (.iload_n 2, 1) := by decide +kernel
theorem dJ4_indexOf_2_29 : decode cJ4_indexOf_2 29 = .ok (.aload_n 0, 1) := by decide +kernel
theorem dJ4_indexOf_2_30 : decode cJ4_indexOf_2 30 = .ok (.invokevirtual 505, 3) := by decide +kernel
theorem dJ4_indexOf_2_33 : decode cJ4_indexOf_2 33 = .ok (.invokestatic 640, 3) := by decide +kernel
theorem dJ4_indexOf_2_36 : decode cJ4_indexOf_2 36 = .ok (.ireturn, 1) := by decide +kernel
theorem dJ4_isLatin1_0 : decode cJ4_isLatin1 0 = .ok (.getstatic 38, 3) := by decide +kernel
theorem dJ4_isLatin1_3 : decode cJ4_isLatin1 3 = .ok (.ifCond .eq 14, 3) := by decide +kernel
theorem dJ4_isLatin1_6 : decode cJ4_isLatin1 6 = .ok (.aload_n 0, 1) := by decide +kernel
theorem dJ4_isLatin1_7 : decode cJ4_isLatin1 7 = .ok (.getfield 15, 3) := by decide +kernel
theorem dJ4_isLatin1_10 : decode cJ4_isLatin1 10 = .ok (.ifCond .ne 7, 3) := by decide +kernel
theorem dJ4_isLatin1_13 : decode cJ4_isLatin1 13 = .ok (.iconst 1, 1) := by decide +kernel
theorem dJ4_isLatin1_14 : decode cJ4_isLatin1 14 = .ok (.goto 4, 3) := by decide +kernel
theorem dJ4_isLatin1_17 : decode cJ4_isLatin1 17 = .ok (.iconst 0, 1) := by decide +kernel
theorem dJ4_isLatin1_18 : decode cJ4_isLatin1 18 = .ok (.ireturn, 1) := by decide +kernel
theorem dJ4_length_0 : decode cJ4_length 0 = .ok (.aload_n 0, 1) := by decide +kernel
theorem dJ4_length_1 : decode cJ4_length 1 = .ok (.getfield 9, 3) := by decide +kernel
theorem dJ4_length_4 : decode cJ4_length 4 = .ok (.arraylength, 1) := by decide +kernel
theorem dJ4_length_5 : decode cJ4_length 5 = .ok (.aload_n 0, 1) := by decide +kernel
theorem dJ4_length_6 : decode cJ4_length 6 = .ok (.invokevirtual 335, 3) := by decide +kernel
theorem dJ4_length_9 : decode cJ4_length 9 = .ok (.ishr, 1) := by decide +kernel
theorem dJ4_length_10 : decode cJ4_length 10 = .ok (.ireturn, 1) := by decide +kernel
theorem dJ5_canEncode_0 : decode cJ5_canEncode 0 = .ok (.iload_n 0, 1) := by decide +kernel
theorem dJ5_canEncode_1 : decode cJ5_canEncode 1 = .ok (.ifCond .lt 14, 3) := by decide +kernel
theorem dJ5_canEncode_4 : decode cJ5_canEncode 4 = .ok (.iload_n 0, 1) := by decide +kernel
theorem dJ5_canEncode_5 : decode cJ5_canEncode 5 = .ok (.sipush 255, 3) := by decide +kernel
theorem dJ5_canEncode_8 : decode cJ5_canEncode 8 = .ok (.if_icmp .gt 7, 3) := by decide +kernel
theorem dJ5_canEncode_11 : decode cJ5_canEncode 11 = .ok (.iconst 1, 1) := by decide +kernel
theorem dJ5_canEncode_12 : decode cJ5_canEncode 12 = .ok (.goto 4, 3) := by decide +kernel
theorem dJ5_canEncode_15 : decode cJ5_canEncode 15 = .ok (.iconst 0, 1) := by decide +kernel
theorem dJ5_canEncode_16 : decode cJ5_canEncode 16 = .ok (.ireturn, 1) := by decide +kernel
theorem dJ5_charAt_0 : decode cJ5_charAt 0 = .ok (.iload_n 1, 1) := by decide +kernel
theorem dJ5_charAt_1 : decode cJ5_charAt 1 = .ok (.aload_n 0, 1) := by decide +kernel
theorem dJ5_charAt_2 : decode cJ5_charAt 2 = .ok (.arraylength, 1) := by decide +kernel
theorem dJ5_charAt_3 : decode cJ5_charAt 3 = .ok (.invokestatic 9, 3) := by decide +kernel
theorem dJ5_charAt_6 : decode cJ5_charAt 6 = .ok (.aload_n 0, 1) := by decide +kernel
theorem dJ5_charAt_7 : decode cJ5_charAt 7 = .ok (.iload_n 1, 1) := by decide +kernel
theorem dJ5_charAt_8 : decode cJ5_charAt 8 = .ok (.baload, 1) := by decide +kernel
theorem dJ5_charAt_9 : decode cJ5_charAt 9 = .ok (.sipush 255, 3) := by decide +kernel
theorem dJ5_charAt_12 : decode cJ5_charAt 12 = .ok (.iand, 1) := by decide +kernel
theorem dJ5_charAt_13 : decode cJ5_charAt 13 = .ok (.i2c, 1) := by decide +kernel
theorem dJ5_charAt_14 : decode cJ5_charAt 14 = .ok (.ireturn, 1) := by decide +kernel
theorem dJ5_indexOf_0 : decode cJ5_indexOf 0 = .ok (.iload_n 1, 1) := by decide +kernel
theorem dJ5_indexOf_1 : decode cJ5_indexOf 1 = .ok (.invokestatic 88, 3) := by decide +kernel
theorem dJ5_indexOf_4 : decode cJ5_indexOf 4 = .ok (.ifCond .ne 5, 3) := by decide +kernel
theorem dJ5_indexOf_7 : decode cJ5_indexOf 7 = .ok (.iconst (-1), 1) := by decide +kernel
theorem dJ5_indexOf_8 : decode cJ5_indexOf 8 = .ok (.ireturn, 1) := by decide +kernel
theorem dJ5_indexOf_9 : decode cJ5_indexOf 9 = .ok (.iload_n 2, 1) := by decide +kernel
theorem dJ5_indexOf_10 : decode cJ5_indexOf 10 = .ok (.iconst 0, 1) := by decide +kernel
theorem dJ5_indexOf_11 : decode cJ5_indexOf 11 = .ok (.invokestatic 92, 3) := by decide +kernel
theorem dJ5_indexOf_14 : decode cJ5_indexOf 14 = .ok (.istore_n 2, 1) := by decide +kernel
theorem dJ5_indexOf_15 : decode cJ5_indexOf 15 = .ok (.iload_n 3, 1) := by decide +kernel
theorem dJ5_indexOf_16 : decode cJ5_indexOf 16 = .ok (.aload_n 0, 1) := by decide +kernel
theorem dJ5_indexOf_17 : decode cJ5_indexOf 17 = .ok (.arraylength, 1) := by decide +kernel
theorem dJ5_indexOf_18 : decode cJ5_indexOf 18 = .ok (.invokestatic 38, 3) := by decide +kernel
theorem dJ5_indexOf_21 : decode cJ5_indexOf 21 = .ok (.istore_n 3, 1) := by decide +kernel
theorem dJ5_indexOf_22 : decode cJ5_indexOf 22 = .ok (.iload_n 2, 1) := by decide +kernel
theorem dJ5_indexOf_23 : decode cJ5_indexOf 23 = .ok (.iload_n 3, 1) := by decide +kernel
theorem dJ5_indexOf_24 : decode cJ5_indexOf 24 = .ok (.if_icmp .lt 5, 3) := by decide +kernel
theorem dJ5_indexOf_27 : decode cJ5_indexOf 27 = .ok (.iconst (-1), 1) := by decide +kernel
theorem dJ5_indexOf_28 : decode cJ5_indexOf 28 = .ok (.ireturn, 1) := by decide +kernel
theorem dJ5_indexOf_29 : decode cJ5_indexOf 29 = .ok (.aload_n 0, 1) := by decide +kernel
theorem dJ5_indexOf_30 : decode cJ5_indexOf 30 = .ok (.iload_n 1, 1) := by decide +kernel
theorem dJ5_indexOf_31 : decode cJ5_indexOf 31 = .ok (.iload_n 2, 1) := by decide +kernel
theorem dJ5_indexOf_32 : decode cJ5_indexOf 32 = .ok (.iload_n 3, 1) := by decide +kernel
theorem dJ5_indexOf_33 : decode cJ5_indexOf 33 = .ok (.invokestatic 95, 3) := by decide +kernel
theorem dJ5_indexOf_36 : decode cJ5_indexOf 36 = .ok (.ireturn, 1) := by decide +kernel
theorem dJ5_indexOfChar_0 : decode cJ5_indexOfChar 0 = .ok (.iload_n 1, 1) := by decide +kernel
theorem dJ5_indexOfChar_1 : decode cJ5_indexOfChar 1 = .ok (.i2b, 1) := by decide +kernel
theorem dJ5_indexOfChar_2 : decode cJ5_indexOfChar 2 = .ok (.istore 4, 2) := by decide +kernel
theorem dJ5_indexOfChar_4 : decode cJ5_indexOfChar 4 = .ok (.iload_n 2, 1) := by decide +kernel
theorem dJ5_indexOfChar_5 : decode cJ5_indexOfChar 5 = .ok (.istore 5, 2) := by decide +kernel
theorem dJ5_indexOfChar_7 : decode cJ5_indexOfChar 7 = .ok (.iload 5, 2) := by decide +kernel
theorem dJ5_indexOfChar_9 : decode cJ5_indexOfChar 9 = .ok (.iload_n 3, 1) := by decide +kernel
theorem dJ5_indexOfChar_10 : decode cJ5_indexOfChar 10 = .ok (.if_icmp .ge 21, 3) := by decide +kernel
theorem dJ5_indexOfChar_13 : decode cJ5_indexOfChar 13 = .ok (.aload_n 0, 1) := by decide +kernel
theorem dJ5_indexOfChar_14 : decode cJ5_indexOfChar 14 = .ok (.iload 5, 2) := by decide +kernel
theorem dJ5_indexOfChar_16 : decode cJ5_indexOfChar 16 = .ok (.baload, 1) := by decide +kernel
theorem dJ5_indexOfChar_17 : decode cJ5_indexOfChar 17 = .ok (.iload 4, 2) := by decide +kernel
theorem dJ5_indexOfChar_19 : decode cJ5_indexOfChar 19 = .ok (.if_icmp .ne 6, 3) := by decide +kernel
theorem dJ5_indexOfChar_22 : decode cJ5_indexOfChar 22 = .ok (.iload 5, 2) := by decide +kernel
theorem dJ5_indexOfChar_24 : decode cJ5_indexOfChar 24 = .ok (.ireturn, 1) := by decide +kernel
theorem dJ5_indexOfChar_25 : decode cJ5_indexOfChar 25 = .ok (.iinc 5 1, 3) := by decide +kernel
theorem dJ5_indexOfChar_28 : decode cJ5_indexOfChar 28 = .ok (.goto (-21), 3) := by decide +kernel
theorem dJ5_indexOfChar_31 : decode cJ5_indexOfChar 31 = .ok (.iconst (-1), 1) := by decide +kernel
theorem dJ5_indexOfChar_32 : decode cJ5_indexOfChar 32 = .ok (.ireturn, 1) := by decide +kernel
theorem dJ6_max_0 : decode cJ6_max 0 = .ok (.iload_n 0, 1) := by decide +kernel
theorem dJ6_max_1 : decode cJ6_max 1 = .ok (.iload_n 1, 1) := by decide +kernel
theorem dJ6_max_2 : decode cJ6_max 2 = .ok (.if_icmp .lt 7, 3) := by decide +kernel
theorem dJ6_max_5 : decode cJ6_max 5 = .ok (.iload_n 0, 1) := by decide +kernel
theorem dJ6_max_6 : decode cJ6_max 6 = .ok (.goto 4, 3) := by decide +kernel
theorem dJ6_max_9 : decode cJ6_max 9 = .ok (.iload_n 1, 1) := by decide +kernel
theorem dJ6_max_10 : decode cJ6_max 10 = .ok (.ireturn, 1) := by decide +kernel
theorem dJ6_min_0 : decode cJ6_min 0 = .ok (.iload_n 0, 1) := by decide +kernel
theorem dJ6_min_1 : decode cJ6_min 1 = .ok (.iload_n 1, 1) := by decide +kernel
theorem dJ6_min_2 : decode cJ6_min 2 = .ok (.if_icmp .gt 7, 3) := by decide +kernel
theorem dJ6_min_5 : decode cJ6_min 5 = .ok (.iload_n 0, 1) := by decide +kernel
theorem dJ6_min_6 : decode cJ6_min 6 = .ok (.goto 4, 3) := by decide +kernel
theorem dJ6_min_9 : decode cJ6_min 9 = .ok (.iload_n 1, 1) := by decide +kernel
theorem dJ6_min_10 : decode cJ6_min 10 = .ok (.ireturn, 1) := by decide +kernel
theorem dJ8_checkFromToIndex_0 : decode cJ8_checkFromToIndex 0 = .ok (.iload_n 0, 1) := by decide +kernel
theorem dJ8_checkFromToIndex_1 : decode cJ8_checkFromToIndex 1 = .ok (.ifCond .lt 13, 3) := by decide +kernel
theorem dJ8_checkFromToIndex_4 : decode cJ8_checkFromToIndex 4 = .ok (.iload_n 0, 1) := by decide +kernel
theorem dJ8_checkFromToIndex_5 : decode cJ8_checkFromToIndex 5 = .ok (.iload_n 1, 1) := by decide +kernel
theorem dJ8_checkFromToIndex_6 : decode cJ8_checkFromToIndex 6 = .ok (.if_icmp .gt 8, 3) := by decide +kernel
theorem dJ8_checkFromToIndex_9 : decode cJ8_checkFromToIndex 9 = .ok (.iload_n 1, 1) := by decide +kernel
theorem dJ8_checkFromToIndex_10 : decode cJ8_checkFromToIndex 10 = .ok (.iload_n 2, 1) := by decide +kernel
theorem dJ8_checkFromToIndex_11 : decode cJ8_checkFromToIndex 11 = .ok (.if_icmp .le 11, 3) := by decide +kernel
theorem dJ8_checkFromToIndex_14 : decode cJ8_checkFromToIndex 14 = .ok (.aload_n 3, 1) := by decide +kernel
theorem dJ8_checkFromToIndex_15 : decode cJ8_checkFromToIndex 15 = .ok (.iload_n 0, 1) := by decide +kernel
theorem dJ8_checkFromToIndex_16 : decode cJ8_checkFromToIndex 16 = .ok (.iload_n 1, 1) := by decide +kernel
theorem dJ8_checkFromToIndex_17 : decode cJ8_checkFromToIndex 17 = .ok (.iload_n 2, 1) := by decide +kernel
theorem dJ8_checkFromToIndex_18 : decode cJ8_checkFromToIndex 18 = .ok (.invokestatic 99, 3) := by decide +kernel
theorem dJ8_checkFromToIndex_21 : decode cJ8_checkFromToIndex 21 = .ok (.athrow, 1) := by decide +kernel
theorem dJ8_checkFromToIndex_22 : decode cJ8_checkFromToIndex 22 = .ok (.iload_n 0, 1) := by decide +kernel
theorem dJ8_checkFromToIndex_23 : decode cJ8_checkFromToIndex 23 = .ok (.ireturn, 1) := by decide +kernel
theorem dJ8_checkIndex_0 : decode cJ8_checkIndex 0 = .ok (.iload_n 0, 1) := by decide +kernel
theorem dJ8_checkIndex_1 : decode cJ8_checkIndex 1 = .ok (.ifCond .lt 8, 3) := by decide +kernel
theorem dJ8_checkIndex_4 : decode cJ8_checkIndex 4 = .ok (.iload_n 0, 1) := by decide +kernel
theorem dJ8_checkIndex_5 : decode cJ8_checkIndex 5 = .ok (.iload_n 1, 1) := by decide +kernel
theorem dJ8_checkIndex_6 : decode cJ8_checkIndex 6 = .ok (.if_icmp .lt 10, 3) := by decide +kernel
theorem dJ8_checkIndex_9 : decode cJ8_checkIndex 9 = .ok (.aload_n 2, 1) := by decide +kernel
theorem dJ8_checkIndex_10 : decode cJ8_checkIndex 10 = .ok (.iload_n 0, 1) := by decide +kernel
theorem dJ8_checkIndex_11 : decode cJ8_checkIndex 11 = .ok (.iload_n 1, 1) := by decide +kernel
theorem dJ8_checkIndex_12 : decode cJ8_checkIndex 12 = .ok (.invokestatic 95, 3) := by decide +kernel
theorem dJ8_checkIndex_15 : decode cJ8_checkIndex 15 = .ok (.athrow, 1) := by decide +kernel
theorem dJ8_checkIndex_16 : decode cJ8_checkIndex 16 = .ok (.iload_n 0, 1) := by decide +kernel
theorem dJ8_checkIndex_17 : decode cJ8_checkIndex 17 = .ok (.ireturn, 1) := by decide +kernel
theorem dJ10_fill_0 : decode cJ10_fill 0 = .ok (.iconst 0, 1) := by decide +kernel
theorem dJ10_fill_1 : decode cJ10_fill 1 = .ok (.istore_n 3, 1) := by decide +kernel
theorem dJ10_fill_2 : decode cJ10_fill 2 = .ok (.aload_n 0, 1) := by decide +kernel
theorem dJ10_fill_3 : decode cJ10_fill 3 = .ok (.arraylength, 1) := by decide +kernel
theorem dJ10_fill_4 : decode cJ10_fill 4 = .ok (.istore 4, 2) := by decide +kernel
theorem dJ10_fill_6 : decode cJ10_fill 6 = .ok (.iload_n 3, 1) := by decide +kernel
theorem dJ10_fill_7 : decode cJ10_fill 7 = .ok (.iload 4, 2) := by decide +kernel
theorem dJ10_fill_9 : decode cJ10_fill 9 = .ok (.if_icmp .ge 13, 3) := by decide +kernel
theorem dJ10_fill_12 : decode cJ10_fill 12 = .ok (.aload_n 0, 1) := by decide +kernel
theorem dJ10_fill_13 : decode cJ10_fill 13 = .ok (.iload_n 3, 1) := by decide +kernel
theorem dJ10_fill_14 : decode cJ10_fill 14 = .ok (.lload_n 1, 1) := by decide +kernel
theorem dJ10_fill_15 : decode cJ10_fill 15 = .ok (.lastore, 1) := by decide +kernel
theorem dJ10_fill_16 : decode cJ10_fill 16 = .ok (.iinc 3 1, 3) := by decide +kernel
theorem dJ10_fill_19 : decode cJ10_fill 19 = .ok (.goto (-13), 3) := by decide +kernel
theorem dJ10_fill_22 : decode cJ10_fill 22 = .ok (.return_, 1) := by decide +kernel
theorem dJ10_fill_2_0 : decode cJ10_fill_2 0 = .ok (.iconst 0, 1) := by decide +kernel
theorem dJ10_fill_2_1 : decode cJ10_fill_2 1 = .ok (.istore_n 2, 1) := by decide +kernel
theorem dJ10_fill_2_2 : decode cJ10_fill_2 2 = .ok (.aload_n 0, 1) := by decide +kernel
theorem dJ10_fill_2_3 : decode cJ10_fill_2 3 = .ok (.arraylength, 1) := by decide +kernel
theorem dJ10_fill_2_4 : decode cJ10_fill_2 4 = .ok (.istore_n 3, 1) := by decide +kernel
theorem dJ10_fill_2_5 : decode cJ10_fill_2 5 = .ok (.iload_n 2, 1) := by decide +kernel
theorem dJ10_fill_2_6 : decode cJ10_fill_2 6 = .ok (.iload_n 3, 1) := by decide +kernel
theorem dJ10_fill_2_7 : decode cJ10_fill_2 7 = .ok (.if_icmp .ge 13, 3) := by decide +kernel
theorem dJ10_fill_2_10 : decode cJ10_fill_2 10 = .ok (.aload_n 0, 1) := by decide +kernel
theorem dJ10_fill_2_11 : decode cJ10_fill_2 11 = .ok (.iload_n 2, 1) := by decide +kernel
theorem dJ10_fill_2_12 : decode cJ10_fill_2 12 = .ok (.iload_n 1, 1) := by decide +kernel
theorem dJ10_fill_2_13 : decode cJ10_fill_2 13 = .ok (.iastore, 1) := by decide +kernel
theorem dJ10_fill_2_14 : decode cJ10_fill_2 14 = .ok (.iinc 2 1, 3) := by decide +kernel
theorem dJ10_fill_2_17 : decode cJ10_fill_2 17 = .ok (.goto (-12), 3) := by decide +kernel
theorem dJ10_fill_2_20 : decode cJ10_fill_2 20 = .ok (.return_, 1) := by decide +kernel
theorem dJ11_init_0 : decode cJ11_init 0 = .ok (.return_, 1) := by decide +kernel
