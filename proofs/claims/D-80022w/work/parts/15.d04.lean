/-! decode rows (by a program) -/
set_option maxRecDepth 100000
theorem dX13_closeBody_0 : decode cX13_closeBody 0 = .ok (.aload_n 0, 1) := by decide +kernel
theorem dX13_closeBody_1 : decode cX13_closeBody 1 = .ok (.getfield 74, 3) := by decide +kernel
theorem dX13_closeBody_4 : decode cX13_closeBody 4 = .ok (.aload_n 0, 1) := by decide +kernel
theorem dX13_closeBody_5 : decode cX13_closeBody 5 = .ok (.getfield 283, 3) := by decide +kernel
theorem dX13_closeBody_8 : decode cX13_closeBody 8 = .ok (.iaload, 1) := by decide +kernel
theorem dX13_closeBody_9 : decode cX13_closeBody 9 = .ok (.istore_n 1, 1) := by decide +kernel
theorem dX13_closeBody_10 : decode cX13_closeBody 10 = .ok (.aload_n 0, 1) := by decide +kernel
theorem dX13_closeBody_11 : decode cX13_closeBody 11 = .ok (.getfield 77, 3) := by decide +kernel
theorem dX13_closeBody_14 : decode cX13_closeBody 14 = .ok (.aload_n 0, 1) := by decide +kernel
theorem dX13_closeBody_15 : decode cX13_closeBody 15 = .ok (.getfield 283, 3) := by decide +kernel
theorem dX13_closeBody_18 : decode cX13_closeBody 18 = .ok (.iaload, 1) := by decide +kernel
theorem dX13_closeBody_19 : decode cX13_closeBody 19 = .ok (.istore_n 2, 1) := by decide +kernel
theorem dX13_closeBody_20 : decode cX13_closeBody 20 = .ok (.aload_n 0, 1) := by decide +kernel
theorem dX13_closeBody_21 : decode cX13_closeBody 21 = .ok (.dup, 1) := by decide +kernel
theorem dX13_closeBody_22 : decode cX13_closeBody 22 = .ok (.getfield 283, 3) := by decide +kernel
theorem dX13_closeBody_25 : decode cX13_closeBody 25 = .ok (.iconst 1, 1) := by decide +kernel
theorem dX13_closeBody_26 : decode cX13_closeBody 26 = .ok (.isub, 1) := by decide +kernel
theorem dX13_closeBody_27 : decode cX13_closeBody 27 = .ok (.putfield 283, 3) := by decide +kernel
theorem dX13_closeBody_30 : decode cX13_closeBody 30 = .ok (.aload_n 0, 1) := by decide +kernel
theorem dX13_closeBody_31 : decode cX13_closeBody 31 = .ok (.invokevirtual 250, 3) := by decide +kernel
theorem dX13_closeBody_34 : decode cX13_closeBody 34 = .ok (.iload_n 2, 1) := by decide +kernel
theorem dX13_closeBody_35 : decode cX13_closeBody 35 = .ok (.iconst 1, 1) := by decide +kernel
theorem dX13_closeBody_36 : decode cX13_closeBody 36 = .ok (.if_icmp .eq 13, 3) := by decide +kernel
theorem dX13_closeBody_39 : decode cX13_closeBody 39 = .ok (.aload_n 0, 1) := by decide +kernel
theorem dX13_closeBody_40 : decode cX13_closeBody 40 = .ok (.getfield 33, 3) := by decide +kernel
theorem dX13_closeBody_43 : decode cX13_closeBody 43 = .ok (.iload_n 1, 1) := by decide +kernel
theorem dX13_closeBody_44 : decode cX13_closeBody 44 = .ok (.iaload, 1) := by decide +kernel
theorem dX13_closeBody_45 : decode cX13_closeBody 45 = .ok (.iconst 2, 1) := by decide +kernel
theorem dX13_closeBody_46 : decode cX13_closeBody 46 = .ok (.if_icmp .ne 4, 3) := by decide +kernel
theorem dX13_closeBody_49 : decode cX13_closeBody 49 = .ok (.return_, 1) := by decide +kernel
theorem dX13_closeBody_50 : decode cX13_closeBody 50 = .ok (.aload_n 0, 1) := by decide +kernel
theorem dX13_closeBody_51 : decode cX13_closeBody 51 = .ok (.getfield 33, 3) := by decide +kernel
theorem dX13_closeBody_54 : decode cX13_closeBody 54 = .ok (.iload_n 1, 1) := by decide +kernel
theorem dX13_closeBody_55 : decode cX13_closeBody 55 = .ok (.iaload, 1) := by decide +kernel
theorem dX13_closeBody_56 : decode cX13_closeBody 56 = .ok (.ifCond .ne 23, 3) := by decide +kernel
theorem dX13_closeBody_59 : decode cX13_closeBody 59 = .ok (.aload_n 0, 1) := by decide +kernel
theorem dX13_closeBody_60 : decode cX13_closeBody 60 = .ok (.getfield 209, 3) := by decide +kernel
theorem dX13_closeBody_63 : decode cX13_closeBody 63 = .ok (.bipush 11, 2) := by decide +kernel
theorem dX13_closeBody_65 : decode cX13_closeBody 65 = .ok (.if_icmp .ne 13, 3) := by decide +kernel
theorem dX13_closeBody_68 : decode cX13_closeBody 68 = .ok (.aload_n 0, 1) := by decide +kernel
theorem dX13_closeBody_69 : decode cX13_closeBody 69 = .ok (.invokevirtual 250, 3) := by decide +kernel
theorem dX13_closeBody_72 : decode cX13_closeBody 72 = .ok (.aload_n 0, 1) := by decide +kernel
theorem dX13_closeBody_73 : decode cX13_closeBody 73 = .ok (.iload_n 1, 1) := by decide +kernel
theorem dX13_closeBody_74 : decode cX13_closeBody 74 = .ok (.iconst 1, 1) := by decide +kernel
theorem dX13_closeBody_75 : decode cX13_closeBody 75 = .ok (.invokevirtual 292, 3) := by decide +kernel
theorem dX13_closeBody_78 : decode cX13_closeBody 78 = .ok (.return_, 1) := by decide +kernel
theorem dX13_closeBody_79 : decode cX13_closeBody 79 = .ok (.aload_n 0, 1) := by decide +kernel
theorem dX13_closeBody_80 : decode cX13_closeBody 80 = .ok (.aload_n 0, 1) := by decide +kernel
theorem dX13_closeBody_81 : decode cX13_closeBody 81 = .ok (.getfield 33, 3) := by decide +kernel
theorem dX13_closeBody_84 : decode cX13_closeBody 84 = .ok (.iload_n 1, 1) := by decide +kernel
theorem dX13_closeBody_85 : decode cX13_closeBody 85 = .ok (.iaload, 1) := by decide +kernel
theorem dX13_closeBody_86 : decode cX13_closeBody 86 = .ok (.iconst 5, 1) := by decide +kernel
theorem dX13_closeBody_87 : decode cX13_closeBody 87 = .ok (.if_icmp .ne 8, 3) := by decide +kernel
theorem dX13_closeBody_90 : decode cX13_closeBody 90 = .ok (.bipush 6, 2) := by decide +kernel
theorem dX13_closeBody_92 : decode cX13_closeBody 92 = .ok (.goto 5, 3) := by decide +kernel
theorem dX13_closeBody_95 : decode cX13_closeBody 95 = .ok (.bipush 8, 2) := by decide +kernel
theorem dX13_closeBody_97 : decode cX13_closeBody 97 = .ok (.invokevirtual 296, 3) := by decide +kernel
theorem dX13_closeBody_100 : decode cX13_closeBody 100 = .ok (.aload_n 0, 1) := by decide +kernel
theorem dX13_closeBody_101 : decode cX13_closeBody 101 = .ok (.getfield 33, 3) := by decide +kernel
theorem dX13_closeBody_104 : decode cX13_closeBody 104 = .ok (.iload_n 1, 1) := by decide +kernel
theorem dX13_closeBody_105 : decode cX13_closeBody 105 = .ok (.iaload, 1) := by decide +kernel
theorem dX13_closeBody_106 : decode cX13_closeBody 106 = .ok (.bipush 7, 2) := by decide +kernel
theorem dX13_closeBody_108 : decode cX13_closeBody 108 = .ok (.if_icmp .ne 46, 3) := by decide +kernel
theorem dX13_closeBody_111 : decode cX13_closeBody 111 = .ok (.aload_n 0, 1) := by decide +kernel
theorem dX13_closeBody_112 : decode cX13_closeBody 112 = .ok (.getfield 240, 3) := by decide +kernel
theorem dX13_closeBody_115 : decode cX13_closeBody 115 = .ok (.ifCond .ne 39, 3) := by decide +kernel
theorem dX13_closeBody_118 : decode cX13_closeBody 118 = .ok (.aload_n 0, 1) := by decide +kernel
theorem dX13_closeBody_119 : decode cX13_closeBody 119 = .ok (.getfield 209, 3) := by decide +kernel
theorem dX13_closeBody_122 : decode cX13_closeBody 122 = .ok (.iconst 2, 1) := by decide +kernel
theorem dX13_closeBody_123 : decode cX13_closeBody 123 = .ok (.if_icmp .ne 12, 3) := by decide +kernel
theorem dX13_closeBody_126 : decode cX13_closeBody 126 = .ok (.aload_n 0, 1) := by decide +kernel
theorem dX13_closeBody_127 : decode cX13_closeBody 127 = .ok (.getfield 216, 3) := by decide +kernel
theorem dX13_closeBody_130 : decode cX13_closeBody 130 = .ok (.bipush 16, 2) := by decide +kernel
theorem dX13_closeBody_132 : decode cX13_closeBody 132 = .ok (.if_icmp .ge 8, 3) := by decide +kernel
theorem dX13_closeBody_135 : decode cX13_closeBody 135 = .ok (.aload_n 0, 1) := by decide +kernel
theorem dX13_closeBody_136 : decode cX13_closeBody 136 = .ok (.invokevirtual 247, 3) := by decide +kernel
theorem dX13_closeBody_139 : decode cX13_closeBody 139 = .ok (.return_, 1) := by decide +kernel
theorem dX13_closeBody_140 : decode cX13_closeBody 140 = .ok (.aload_n 0, 1) := by decide +kernel
theorem dX13_closeBody_141 : decode cX13_closeBody 141 = .ok (.getfield 54, 3) := by decide +kernel
theorem dX13_closeBody_144 : decode cX13_closeBody 144 = .ok (.iload_n 1, 1) := by decide +kernel
theorem dX13_closeBody_145 : decode cX13_closeBody 145 = .ok (.aload_n 0, 1) := by decide +kernel
theorem dX13_closeBody_146 : decode cX13_closeBody 146 = .ok (.getfield 216, 3) := by decide +kernel
theorem dX13_closeBody_149 : decode cX13_closeBody 149 = .ok (.iastore, 1) := by decide +kernel
theorem dX13_closeBody_150 : decode cX13_closeBody 150 = .ok (.aload_n 0, 1) := by decide +kernel
theorem dX13_closeBody_151 : decode cX13_closeBody 151 = .ok (.invokevirtual 250, 3) := by decide +kernel
theorem dX13_closeBody_154 : decode cX13_closeBody 154 = .ok (.aload_n 0, 1) := by decide +kernel
theorem dX13_closeBody_155 : decode cX13_closeBody 155 = .ok (.getfield 240, 3) := by decide +kernel
theorem dX13_closeBody_158 : decode cX13_closeBody 158 = .ok (.ifCond .ne 9, 3) := by decide +kernel
theorem dX13_closeBody_161 : decode cX13_closeBody 161 = .ok (.aload_n 0, 1) := by decide +kernel
theorem dX13_closeBody_162 : decode cX13_closeBody 162 = .ok (.iload_n 1, 1) := by decide +kernel
theorem dX13_closeBody_163 : decode cX13_closeBody 163 = .ok (.iconst 1, 1) := by decide +kernel
theorem dX13_closeBody_164 : decode cX13_closeBody 164 = .ok (.invokevirtual 292, 3) := by decide +kernel
theorem dX13_closeBody_167 : decode cX13_closeBody 167 = .ok (.return_, 1) := by decide +kernel
theorem dX13_comesToSame_0 : decode cX13_comesToSame 0 = .ok (.aload_n 0, 1) := by decide +kernel
theorem dX13_comesToSame_1 : decode cX13_comesToSame 1 = .ok (.getfield 155, 3) := by decide +kernel
theorem dX13_comesToSame_4 : decode cX13_comesToSame 4 = .ok (.iload_n 1, 1) := by decide +kernel
theorem dX13_comesToSame_5 : decode cX13_comesToSame 5 = .ok (.iaload, 1) := by decide +kernel
theorem dX13_comesToSame_6 : decode cX13_comesToSame 6 = .ok (.ifCond .ne 43, 3) := by decide +kernel
theorem dX13_comesToSame_9 : decode cX13_comesToSame 9 = .ok (.aload_n 0, 1) := by decide +kernel
theorem dX13_comesToSame_10 : decode cX13_comesToSame 10 = .ok (.getfield 83, 3) := by decide +kernel
theorem dX13_comesToSame_13 : decode cX13_comesToSame 13 = .ok (.bipush 16, 2) := by decide +kernel
theorem dX13_comesToSame_15 : decode cX13_comesToSame 15 = .ok (.aload_n 0, 1) := by decide +kernel
theorem dX13_comesToSame_16 : decode cX13_comesToSame 16 = .ok (.getfield 161, 3) := by decide +kernel
theorem dX13_comesToSame_19 : decode cX13_comesToSame 19 = .ok (.iload_n 1, 1) := by decide +kernel
theorem dX13_comesToSame_20 : decode cX13_comesToSame 20 = .ok (.iaload, 1) := by decide +kernel
theorem dX13_comesToSame_21 : decode cX13_comesToSame 21 = .ok (.iadd, 1) := by decide +kernel
theorem dX13_comesToSame_22 : decode cX13_comesToSame 22 = .ok (.aload_n 0, 1) := by decide +kernel
theorem dX13_comesToSame_23 : decode cX13_comesToSame 23 = .ok (.getfield 170, 3) := by decide +kernel
theorem dX13_comesToSame_26 : decode cX13_comesToSame 26 = .ok (.iload_n 1, 1) := by decide +kernel
theorem dX13_comesToSame_27 : decode cX13_comesToSame 27 = .ok (.laload, 1) := by decide +kernel
theorem dX13_comesToSame_28 : decode cX13_comesToSame 28 = .ok (.lastore, 1) := by decide +kernel
theorem dX13_comesToSame_29 : decode cX13_comesToSame 29 = .ok (.aload_n 0, 1) := by decide +kernel
theorem dX13_comesToSame_30 : decode cX13_comesToSame 30 = .ok (.getfield 86, 3) := by decide +kernel
theorem dX13_comesToSame_33 : decode cX13_comesToSame 33 = .ok (.bipush 16, 2) := by decide +kernel
theorem dX13_comesToSame_35 : decode cX13_comesToSame 35 = .ok (.aload_n 0, 1) := by decide +kernel
theorem dX13_comesToSame_36 : decode cX13_comesToSame 36 = .ok (.getfield 161, 3) := by decide +kernel
theorem dX13_comesToSame_39 : decode cX13_comesToSame 39 = .ok (.iload_n 1, 1) := by decide +kernel
theorem dX13_comesToSame_40 : decode cX13_comesToSame 40 = .ok (.iaload, 1) := by decide +kernel
theorem dX13_comesToSame_41 : decode cX13_comesToSame 41 = .ok (.iadd, 1) := by decide +kernel
theorem dX13_comesToSame_42 : decode cX13_comesToSame 42 = .ok (.dup2, 1) := by decide +kernel
theorem dX13_comesToSame_43 : decode cX13_comesToSame 43 = .ok (.iaload, 1) := by decide +kernel
theorem dX13_comesToSame_44 : decode cX13_comesToSame 44 = .ok (.iconst 1, 1) := by decide +kernel
theorem dX13_comesToSame_45 : decode cX13_comesToSame 45 = .ok (.iadd, 1) := by decide +kernel
theorem dX13_comesToSame_46 : decode cX13_comesToSame 46 = .ok (.iastore, 1) := by decide +kernel
theorem dX13_comesToSame_47 : decode cX13_comesToSame 47 = .ok (.iconst 1, 1) := by decide +kernel
theorem dX13_comesToSame_48 : decode cX13_comesToSame 48 = .ok (.ireturn, 1) := by decide +kernel
theorem dX13_comesToSame_49 : decode cX13_comesToSame 49 = .ok (.aload_n 0, 1) := by decide +kernel
theorem dX13_comesToSame_50 : decode cX13_comesToSame 50 = .ok (.aload_n 0, 1) := by decide +kernel
theorem dX13_comesToSame_51 : decode cX13_comesToSame 51 = .ok (.getfield 161, 3) := by decide +kernel
theorem dX13_comesToSame_54 : decode cX13_comesToSame 54 = .ok (.iload_n 1, 1) := by decide +kernel
theorem dX13_comesToSame_55 : decode cX13_comesToSame 55 = .ok (.iaload, 1) := by decide +kernel
theorem dX13_comesToSame_56 : decode cX13_comesToSame 56 = .ok (.invokevirtual 441, 3) := by decide +kernel
theorem dX13_comesToSame_59 : decode cX13_comesToSame 59 = .ok (.iconst 0, 1) := by decide +kernel
theorem dX13_comesToSame_60 : decode cX13_comesToSame 60 = .ok (.istore_n 2, 1) := by decide +kernel
theorem dX13_comesToSame_61 : decode cX13_comesToSame 61 = .ok (.iconst 0, 1) := by decide +kernel
theorem dX13_comesToSame_62 : decode cX13_comesToSame 62 = .ok (.istore_n 3, 1) := by decide +kernel
theorem dX13_comesToSame_63 : decode cX13_comesToSame 63 = .ok (.iload_n 3, 1) := by decide +kernel
theorem dX13_comesToSame_64 : decode cX13_comesToSame 64 = .ok (.ifCond .ne 21, 3) := by decide +kernel
theorem dX13_comesToSame_67 : decode cX13_comesToSame 67 = .ok (.iload_n 2, 1) := by decide +kernel
theorem dX13_comesToSame_68 : decode cX13_comesToSame 68 = .ok (.sipush 300, 3) := by decide +kernel
theorem dX13_comesToSame_71 : decode cX13_comesToSame 71 = .ok (.if_icmp .ge 14, 3) := by decide +kernel
theorem dX13_comesToSame_74 : decode cX13_comesToSame 74 = .ok (.aload_n 0, 1) := by decide +kernel
theorem dX13_comesToSame_75 : decode cX13_comesToSame 75 = .ok (.invokevirtual 395, 3) := by decide +kernel
theorem dX13_comesToSame_78 : decode cX13_comesToSame 78 = .ok (.istore_n 3, 1) := by decide +kernel
theorem dX13_comesToSame_79 : decode cX13_comesToSame 79 = .ok (.iinc 2 1, 3) := by decide +kernel
theorem dX13_comesToSame_82 : decode cX13_comesToSame 82 = .ok (.goto (-19), 3) := by decide +kernel
theorem dX13_comesToSame_85 : decode cX13_comesToSame 85 = .ok (.iload_n 3, 1) := by decide +kernel
theorem dX13_comesToSame_86 : decode cX13_comesToSame 86 = .ok (.iconst 2, 1) := by decide +kernel
theorem dX13_comesToSame_87 : decode cX13_comesToSame 87 = .ok (.if_icmp .ne 7, 3) := by decide +kernel
theorem dX13_comesToSame_90 : decode cX13_comesToSame 90 = .ok (.iconst 1, 1) := by decide +kernel
theorem dX13_comesToSame_91 : decode cX13_comesToSame 91 = .ok (.goto 4, 3) := by decide +kernel
theorem dX13_comesToSame_94 : decode cX13_comesToSame 94 = .ok (.iconst 0, 1) := by decide +kernel
theorem dX13_comesToSame_95 : decode cX13_comesToSame 95 = .ok (.istore 4, 2) := by decide +kernel
theorem dX13_comesToSame_97 : decode cX13_comesToSame 97 = .ok (.aload_n 0, 1) := by decide +kernel
theorem dX13_comesToSame_98 : decode cX13_comesToSame 98 = .ok (.getfield 342, 3) := by decide +kernel
theorem dX13_comesToSame_101 : decode cX13_comesToSame 101 = .ok (.lstore 5, 2) := by decide +kernel
theorem dX13_comesToSame_103 : decode cX13_comesToSame 103 = .ok (.iload_n 3, 1) := by decide +kernel
theorem dX13_comesToSame_104 : decode cX13_comesToSame 104 = .ok (.ifCond .ne 17, 3) := by decide +kernel
theorem dX13_comesToSame_107 : decode cX13_comesToSame 107 = .ok (.iconst 1, 1) := by decide +kernel
theorem dX13_comesToSame_108 : decode cX13_comesToSame 108 = .ok (.istore 4, 2) := by decide +kernel
theorem dX13_comesToSame_110 : decode cX13_comesToSame 110 = .ok (.ldc2_w 408, 3) := by decide +kernel
theorem dX13_comesToSame_113 : decode cX13_comesToSame 113 = .ok (.lstore 5, 2) := by decide +kernel
theorem dX13_comesToSame_115 : decode cX13_comesToSame 115 = .ok (.iinc 2 1, 3) := by decide +kernel
theorem dX13_comesToSame_118 : decode cX13_comesToSame 118 = .ok (.goto 38, 3) := by decide +kernel
theorem dX13_comesToSame_121 : decode cX13_comesToSame 121 = .ok (.iload_n 3, 1) := by decide +kernel
theorem dX13_comesToSame_122 : decode cX13_comesToSame 122 = .ok (.iconst 4, 1) := by decide +kernel
theorem dX13_comesToSame_123 : decode cX13_comesToSame 123 = .ok (.if_icmp .ne 21, 3) := by decide +kernel
theorem dX13_comesToSame_126 : decode cX13_comesToSame 126 = .ok (.aload_n 0, 1) := by decide +kernel
theorem dX13_comesToSame_127 : decode cX13_comesToSame 127 = .ok (.invokevirtual 423, 3) := by decide +kernel
theorem dX13_comesToSame_130 : decode cX13_comesToSame 130 = .ok (.ifCond .ne 14, 3) := by decide +kernel
theorem dX13_comesToSame_133 : decode cX13_comesToSame 133 = .ok (.iconst 1, 1) := by decide +kernel
theorem dX13_comesToSame_134 : decode cX13_comesToSame 134 = .ok (.istore 4, 2) := by decide +kernel
theorem dX13_comesToSame_136 : decode cX13_comesToSame 136 = .ok (.ldc2_w 426, 3) := by decide +kernel
theorem dX13_comesToSame_139 : decode cX13_comesToSame 139 = .ok (.lstore 5, 2) := by decide +kernel
theorem dX13_comesToSame_141 : decode cX13_comesToSame 141 = .ok (.goto 15, 3) := by decide +kernel
theorem dX13_comesToSame_144 : decode cX13_comesToSame 144 = .ok (.iload_n 3, 1) := by decide +kernel
theorem dX13_comesToSame_145 : decode cX13_comesToSame 145 = .ok (.iconst 3, 1) := by decide +kernel
theorem dX13_comesToSame_146 : decode cX13_comesToSame 146 = .ok (.if_icmp .eq 8, 3) := by decide +kernel
theorem dX13_comesToSame_149 : decode cX13_comesToSame 149 = .ok (.iload_n 3, 1) := by decide +kernel
theorem dX13_comesToSame_150 : decode cX13_comesToSame 150 = .ok (.iconst 1, 1) := by decide +kernel
theorem dX13_comesToSame_151 : decode cX13_comesToSame 151 = .ok (.if_icmp .ne 5, 3) := by decide +kernel
theorem dX13_comesToSame_154 : decode cX13_comesToSame 154 = .ok (.iconst 0, 1) := by decide +kernel
theorem dX13_comesToSame_155 : decode cX13_comesToSame 155 = .ok (.ireturn, 1) := by decide +kernel
theorem dX13_comesToSame_156 : decode cX13_comesToSame 156 = .ok (.iload 4, 2) := by decide +kernel
theorem dX13_comesToSame_158 : decode cX13_comesToSame 158 = .ok (.ifCond .ne 7, 3) := by decide +kernel
theorem dX13_comesToSame_161 : decode cX13_comesToSame 161 = .ok (.aload_n 0, 1) := by decide +kernel
theorem dX13_comesToSame_162 : decode cX13_comesToSame 162 = .ok (.invokevirtual 428, 3) := by decide +kernel
theorem dX13_comesToSame_165 : decode cX13_comesToSame 165 = .ok (.iload_n 2, 1) := by decide +kernel
theorem dX13_comesToSame_166 : decode cX13_comesToSame 166 = .ok (.aload_n 0, 1) := by decide +kernel
theorem dX13_comesToSame_167 : decode cX13_comesToSame 167 = .ok (.getfield 164, 3) := by decide +kernel
theorem dX13_comesToSame_170 : decode cX13_comesToSame 170 = .ok (.iload_n 1, 1) := by decide +kernel
theorem dX13_comesToSame_171 : decode cX13_comesToSame 171 = .ok (.iaload, 1) := by decide +kernel
theorem dX13_comesToSame_172 : decode cX13_comesToSame 172 = .ok (.if_icmp .ne 47, 3) := by decide +kernel
theorem dX13_comesToSame_175 : decode cX13_comesToSame 175 = .ok (.iload 4, 2) := by decide +kernel
theorem dX13_comesToSame_177 : decode cX13_comesToSame 177 = .ok (.ifCond .eq 28, 3) := by decide +kernel
theorem dX13_comesToSame_180 : decode cX13_comesToSame 180 = .ok (.aload_n 0, 1) := by decide +kernel
theorem dX13_comesToSame_181 : decode cX13_comesToSame 181 = .ok (.getfield 155, 3) := by decide +kernel
theorem dX13_comesToSame_184 : decode cX13_comesToSame 184 = .ok (.iload_n 1, 1) := by decide +kernel
theorem dX13_comesToSame_185 : decode cX13_comesToSame 185 = .ok (.iaload, 1) := by decide +kernel
theorem dX13_comesToSame_186 : decode cX13_comesToSame 186 = .ok (.iconst 2, 1) := by decide +kernel
theorem dX13_comesToSame_187 : decode cX13_comesToSame 187 = .ok (.if_icmp .ne 32, 3) := by decide +kernel
theorem dX13_comesToSame_190 : decode cX13_comesToSame 190 = .ok (.aload_n 0, 1) := by decide +kernel
theorem dX13_comesToSame_191 : decode cX13_comesToSame 191 = .ok (.getfield 170, 3) := by decide +kernel
theorem dX13_comesToSame_194 : decode cX13_comesToSame 194 = .ok (.iload_n 1, 1) := by decide +kernel
theorem dX13_comesToSame_195 : decode cX13_comesToSame 195 = .ok (.laload, 1) := by decide +kernel
theorem dX13_comesToSame_196 : decode cX13_comesToSame 196 = .ok (.lload 5, 2) := by decide +kernel
theorem dX13_comesToSame_198 : decode cX13_comesToSame 198 = .ok (.lcmp, 1) := by decide +kernel
theorem dX13_comesToSame_199 : decode cX13_comesToSame 199 = .ok (.ifCond .ne 20, 3) := by decide +kernel
theorem dX13_comesToSame_202 : decode cX13_comesToSame 202 = .ok (.goto 13, 3) := by decide +kernel
theorem dX13_comesToSame_205 : decode cX13_comesToSame 205 = .ok (.aload_n 0, 1) := by decide +kernel
theorem dX13_comesToSame_206 : decode cX13_comesToSame 206 = .ok (.getfield 155, 3) := by decide +kernel
theorem dX13_comesToSame_209 : decode cX13_comesToSame 209 = .ok (.iload_n 1, 1) := by decide +kernel
theorem dX13_comesToSame_210 : decode cX13_comesToSame 210 = .ok (.iaload, 1) := by decide +kernel
theorem dX13_comesToSame_211 : decode cX13_comesToSame 211 = .ok (.iconst 1, 1) := by decide +kernel
theorem dX13_comesToSame_212 : decode cX13_comesToSame 212 = .ok (.if_icmp .ne 7, 3) := by decide +kernel
theorem dX13_comesToSame_215 : decode cX13_comesToSame 215 = .ok (.iconst 1, 1) := by decide +kernel
theorem dX13_comesToSame_216 : decode cX13_comesToSame 216 = .ok (.goto 4, 3) := by decide +kernel
theorem dX13_comesToSame_219 : decode cX13_comesToSame 219 = .ok (.iconst 0, 1) := by decide +kernel
theorem dX13_comesToSame_220 : decode cX13_comesToSame 220 = .ok (.ireturn, 1) := by decide +kernel
theorem dX13_cutRun_0 : decode cX13_cutRun 0 = .ok (.aload_n 0, 1) := by decide +kernel
theorem dX13_cutRun_1 : decode cX13_cutRun 1 = .ok (.getfield 101, 3) := by decide +kernel
theorem dX13_cutRun_4 : decode cX13_cutRun 4 = .ok (.iload_n 1, 1) := by decide +kernel
theorem dX13_cutRun_5 : decode cX13_cutRun 5 = .ok (.iconst 0, 1) := by decide +kernel
theorem dX13_cutRun_6 : decode cX13_cutRun 6 = .ok (.iastore, 1) := by decide +kernel
theorem dX13_cutRun_7 : decode cX13_cutRun 7 = .ok (.aload_n 0, 1) := by decide +kernel
theorem dX13_cutRun_8 : decode cX13_cutRun 8 = .ok (.getfield 104, 3) := by decide +kernel
theorem dX13_cutRun_11 : decode cX13_cutRun 11 = .ok (.iload_n 1, 1) := by decide +kernel
theorem dX13_cutRun_12 : decode cX13_cutRun 12 = .ok (.iconst 0, 1) := by decide +kernel
theorem dX13_cutRun_13 : decode cX13_cutRun 13 = .ok (.iastore, 1) := by decide +kernel
theorem dX13_cutRun_14 : decode cX13_cutRun 14 = .ok (.aload_n 0, 1) := by decide +kernel
theorem dX13_cutRun_15 : decode cX13_cutRun 15 = .ok (.getfield 113, 3) := by decide +kernel
theorem dX13_cutRun_18 : decode cX13_cutRun 18 = .ok (.iload_n 1, 1) := by decide +kernel
theorem dX13_cutRun_19 : decode cX13_cutRun 19 = .ok (.iconst 0, 1) := by decide +kernel
theorem dX13_cutRun_20 : decode cX13_cutRun 20 = .ok (.iastore, 1) := by decide +kernel
theorem dX13_cutRun_21 : decode cX13_cutRun 21 = .ok (.aload_n 0, 1) := by decide +kernel
theorem dX13_cutRun_22 : decode cX13_cutRun 22 = .ok (.getfield 107, 3) := by decide +kernel
theorem dX13_cutRun_25 : decode cX13_cutRun 25 = .ok (.iload_n 1, 1) := by decide +kernel
theorem dX13_cutRun_26 : decode cX13_cutRun 26 = .ok (.dup2, 1) := by decide +kernel
theorem dX13_cutRun_27 : decode cX13_cutRun 27 = .ok (.iaload, 1) := by decide +kernel
theorem dX13_cutRun_28 : decode cX13_cutRun 28 = .ok (.iconst 1, 1) := by decide +kernel
theorem dX13_cutRun_29 : decode cX13_cutRun 29 = .ok (.iadd, 1) := by decide +kernel
theorem dX13_cutRun_30 : decode cX13_cutRun 30 = .ok (.iastore, 1) := by decide +kernel
theorem dX13_cutRun_31 : decode cX13_cutRun 31 = .ok (.aload_n 0, 1) := by decide +kernel
theorem dX13_cutRun_32 : decode cX13_cutRun 32 = .ok (.getfield 110, 3) := by decide +kernel
theorem dX13_cutRun_35 : decode cX13_cutRun 35 = .ok (.iload_n 1, 1) := by decide +kernel
theorem dX13_cutRun_36 : decode cX13_cutRun 36 = .ok (.aload_n 0, 1) := by decide +kernel
theorem dX13_cutRun_37 : decode cX13_cutRun 37 = .ok (.getfield 110, 3) := by decide +kernel
theorem dX13_cutRun_40 : decode cX13_cutRun 40 = .ok (.iload_n 1, 1) := by decide +kernel
theorem dX13_cutRun_41 : decode cX13_cutRun 41 = .ok (.baload, 1) := by decide +kernel
theorem dX13_cutRun_42 : decode cX13_cutRun 42 = .ok (.ifCond .ne 13, 3) := by decide +kernel
theorem dX13_cutRun_45 : decode cX13_cutRun 45 = .ok (.aload_n 0, 1) := by decide +kernel
theorem dX13_cutRun_46 : decode cX13_cutRun 46 = .ok (.getfield 107, 3) := by decide +kernel
theorem dX13_cutRun_49 : decode cX13_cutRun 49 = .ok (.iload_n 1, 1) := by decide +kernel
theorem dX13_cutRun_50 : decode cX13_cutRun 50 = .ok (.iaload, 1) := by decide +kernel
theorem dX13_cutRun_51 : decode cX13_cutRun 51 = .ok (.iconst 4, 1) := by decide +kernel
theorem dX13_cutRun_52 : decode cX13_cutRun 52 = .ok (.if_icmp .lt 7, 3) := by decide +kernel
theorem dX13_cutRun_55 : decode cX13_cutRun 55 = .ok (.iconst 1, 1) := by decide +kernel
theorem dX13_cutRun_56 : decode cX13_cutRun 56 = .ok (.goto 4, 3) := by decide +kernel
theorem dX13_cutRun_59 : decode cX13_cutRun 59 = .ok (.iconst 0, 1) := by decide +kernel
theorem dX13_cutRun_60 : decode cX13_cutRun 60 = .ok (.bastore, 1) := by decide +kernel
theorem dX13_cutRun_61 : decode cX13_cutRun 61 = .ok (.iconst 3, 1) := by decide +kernel
theorem dX13_cutRun_62 : decode cX13_cutRun 62 = .ok (.ireturn, 1) := by decide +kernel
theorem dX13_end_0 : decode cX13_end 0 = .ok (.aload_n 0, 1) := by decide +kernel
theorem dX13_end_1 : decode cX13_end 1 = .ok (.iconst 0, 1) := by decide +kernel
theorem dX13_end_2 : decode cX13_end 2 = .ok (.putfield 173, 3) := by decide +kernel
theorem dX13_end_5 : decode cX13_end 5 = .ok (.iload_n 1, 1) := by decide +kernel
theorem dX13_end_6 : decode cX13_end 6 = .ok (.ifCond .lt 18, 3) := by decide +kernel
theorem dX13_end_9 : decode cX13_end 9 = .ok (.iload_n 1, 1) := by decide +kernel
theorem dX13_end_10 : decode cX13_end 10 = .ok (.bipush 20, 2) := by decide +kernel
theorem dX13_end_12 : decode cX13_end 12 = .ok (.if_icmp .gt 12, 3) := by decide +kernel
theorem dX13_end_15 : decode cX13_end 15 = .ok (.aload_n 0, 1) := by decide +kernel
theorem dX13_end_16 : decode cX13_end 16 = .ok (.getfield 176, 3) := by decide +kernel
theorem dX13_end_19 : decode cX13_end 19 = .ok (.bipush 20, 2) := by decide +kernel
theorem dX13_end_21 : decode cX13_end 21 = .ok (.if_icmp .ge 5, 3) := by decide +kernel
theorem dX13_end_24 : decode cX13_end 24 = .ok (.iconst (-1), 1) := by decide +kernel
theorem dX13_end_25 : decode cX13_end 25 = .ok (.ireturn, 1) := by decide +kernel
theorem dX13_end_26 : decode cX13_end 26 = .ok (.aload_n 0, 1) := by decide +kernel
theorem dX13_end_27 : decode cX13_end 27 = .ok (.dup, 1) := by decide +kernel
theorem dX13_end_28 : decode cX13_end 28 = .ok (.getfield 176, 3) := by decide +kernel
theorem dX13_end_31 : decode cX13_end 31 = .ok (.bipush 20, 2) := by decide +kernel
theorem dX13_end_33 : decode cX13_end 33 = .ok (.iload_n 1, 1) := by decide +kernel
theorem dX13_end_34 : decode cX13_end 34 = .ok (.isub, 1) := by decide +kernel
theorem dX13_end_35 : decode cX13_end 35 = .ok (.isub, 1) := by decide +kernel
theorem dX13_end_36 : decode cX13_end 36 = .ok (.putfield 176, 3) := by decide +kernel
theorem dX13_end_39 : decode cX13_end 39 = .ok (.aload_n 0, 1) := by decide +kernel
theorem dX13_end_40 : decode cX13_end 40 = .ok (.getfield 176, 3) := by decide +kernel
theorem dX13_end_43 : decode cX13_end 43 = .ok (.ireturn, 1) := by decide +kernel
theorem dX13_endThrown_0 : decode cX13_endThrown 0 = .ok (.aload_n 0, 1) := by decide +kernel
theorem dX13_endThrown_1 : decode cX13_endThrown 1 = .ok (.getfield 386, 3) := by decide +kernel
theorem dX13_endThrown_4 : decode cX13_endThrown 4 = .ok (.sipush 300, 3) := by decide +kernel
theorem dX13_endThrown_7 : decode cX13_endThrown 7 = .ok (.if_icmp .ne 5, 3) := by decide +kernel
theorem dX13_endThrown_10 : decode cX13_endThrown 10 = .ok (.iconst (-1), 1) := by decide +kernel
theorem dX13_endThrown_11 : decode cX13_endThrown 11 = .ok (.ireturn, 1) := by decide +kernel
theorem dX13_endThrown_12 : decode cX13_endThrown 12 = .ok (.aload_n 0, 1) := by decide +kernel
theorem dX13_endThrown_13 : decode cX13_endThrown 13 = .ok (.iconst 2, 1) := by decide +kernel
theorem dX13_endThrown_14 : decode cX13_endThrown 14 = .ok (.iload_n 1, 1) := by decide +kernel
theorem dX13_endThrown_15 : decode cX13_endThrown 15 = .ok (.aload_n 0, 1) := by decide +kernel
theorem dX13_endThrown_16 : decode cX13_endThrown 16 = .ok (.iload_n 1, 1) := by decide +kernel
theorem dX13_endThrown_17 : decode cX13_endThrown 17 = .ok (.invokevirtual 392, 3) := by decide +kernel
theorem dX13_endThrown_20 : decode cX13_endThrown 20 = .ok (.aload_n 0, 1) := by decide +kernel
theorem dX13_endThrown_21 : decode cX13_endThrown 21 = .ok (.getfield 104, 3) := by decide +kernel
theorem dX13_endThrown_24 : decode cX13_endThrown 24 = .ok (.iload_n 1, 1) := by decide +kernel
theorem dX13_endThrown_25 : decode cX13_endThrown 25 = .ok (.iaload, 1) := by decide +kernel
theorem dX13_endThrown_26 : decode cX13_endThrown 26 = .ok (.iconst 1, 1) := by decide +kernel
theorem dX13_endThrown_27 : decode cX13_endThrown 27 = .ok (.iadd, 1) := by decide +kernel
theorem dX13_endThrown_28 : decode cX13_endThrown 28 = .ok (.aload_n 0, 1) := by decide +kernel
theorem dX13_endThrown_29 : decode cX13_endThrown 29 = .ok (.getfield 107, 3) := by decide +kernel
theorem dX13_endThrown_32 : decode cX13_endThrown 32 = .ok (.iload_n 1, 1) := by decide +kernel
theorem dX13_endThrown_33 : decode cX13_endThrown 33 = .ok (.iaload, 1) := by decide +kernel
theorem dX13_endThrown_34 : decode cX13_endThrown 34 = .ok (.lload_n 2, 1) := by decide +kernel
theorem dX13_endThrown_35 : decode cX13_endThrown 35 = .ok (.invokevirtual 398, 3) := by decide +kernel
theorem dX13_endThrown_38 : decode cX13_endThrown 38 = .ok (.aload_n 0, 1) := by decide +kernel
theorem dX13_endThrown_39 : decode cX13_endThrown 39 = .ok (.iload_n 1, 1) := by decide +kernel
theorem dX13_endThrown_40 : decode cX13_endThrown 40 = .ok (.invokevirtual 402, 3) := by decide +kernel
theorem dX13_endThrown_43 : decode cX13_endThrown 43 = .ok (.iconst 2, 1) := by decide +kernel
theorem dX13_endThrown_44 : decode cX13_endThrown 44 = .ok (.ireturn, 1) := by decide +kernel
theorem dX13_exp_0 : decode cX13_exp 0 = .ok (.sipush 200, 3) := by decide +kernel
theorem dX13_exp_3 : decode cX13_exp 3 = .ok (.aload_n 0, 1) := by decide +kernel
theorem dX13_exp_4 : decode cX13_exp 4 = .ok (.getfield 253, 3) := by decide +kernel
theorem dX13_exp_7 : decode cX13_exp 7 = .ok (.imul, 1) := by decide +kernel
theorem dX13_exp_8 : decode cX13_exp 8 = .ok (.aload_n 0, 1) := by decide +kernel
theorem dX13_exp_9 : decode cX13_exp 9 = .ok (.getfield 30, 3) := by decide +kernel
theorem dX13_exp_12 : decode cX13_exp 12 = .ok (.aload_n 0, 1) := by decide +kernel
theorem dX13_exp_13 : decode cX13_exp 13 = .ok (.getfield 253, 3) := by decide +kernel
theorem dX13_exp_16 : decode cX13_exp 16 = .ok (.iaload, 1) := by decide +kernel
theorem dX13_exp_17 : decode cX13_exp 17 = .ok (.iadd, 1) := by decide +kernel
theorem dX13_exp_18 : decode cX13_exp 18 = .ok (.istore_n 2, 1) := by decide +kernel
theorem dX13_exp_19 : decode cX13_exp 19 = .ok (.aload_n 0, 1) := by decide +kernel
theorem dX13_exp_20 : decode cX13_exp 20 = .ok (.iconst 0, 1) := by decide +kernel
theorem dX13_exp_21 : decode cX13_exp 21 = .ok (.putfield 256, 3) := by decide +kernel
theorem dX13_exp_24 : decode cX13_exp 24 = .ok (.aload_n 0, 1) := by decide +kernel
theorem dX13_exp_25 : decode cX13_exp 25 = .ok (.iconst 0, 1) := by decide +kernel
theorem dX13_exp_26 : decode cX13_exp 26 = .ok (.putfield 266, 3) := by decide +kernel
theorem dX13_exp_29 : decode cX13_exp 29 = .ok (.aload_n 0, 1) := by decide +kernel
theorem dX13_exp_30 : decode cX13_exp 30 = .ok (.iconst 0, 1) := by decide +kernel
theorem dX13_exp_31 : decode cX13_exp 31 = .ok (.putfield 269, 3) := by decide +kernel
theorem dX13_exp_34 : decode cX13_exp 34 = .ok (.aload_n 0, 1) := by decide +kernel
theorem dX13_exp_35 : decode cX13_exp 35 = .ok (.getfield 70, 3) := by decide +kernel
theorem dX13_exp_38 : decode cX13_exp 38 = .ok (.iconst 0, 1) := by decide +kernel
theorem dX13_exp_39 : decode cX13_exp 39 = .ok (.iconst 0, 1) := by decide +kernel
theorem dX13_exp_40 : decode cX13_exp 40 = .ok (.bastore, 1) := by decide +kernel
theorem dX13_exp_41 : decode cX13_exp 41 = .ok (.iconst 1, 1) := by decide +kernel
theorem dX13_exp_42 : decode cX13_exp 42 = .ok (.istore_n 3, 1) := by decide +kernel
theorem dX13_exp_43 : decode cX13_exp 43 = .ok (.iconst 1, 1) := by decide +kernel
theorem dX13_exp_44 : decode cX13_exp 44 = .ok (.istore 4, 2) := by decide +kernel
theorem dX13_exp_46 : decode cX13_exp 46 = .ok (.iload 4, 2) := by decide +kernel
theorem dX13_exp_48 : decode cX13_exp 48 = .ok (.ifCond .eq 230, 3) := by decide +kernel
theorem dX13_exp_51 : decode cX13_exp 51 = .ok (.aload_n 0, 1) := by decide +kernel
theorem dX13_exp_52 : decode cX13_exp 52 = .ok (.getfield 240, 3) := by decide +kernel
theorem dX13_exp_55 : decode cX13_exp 55 = .ok (.ifCond .ne 223, 3) := by decide +kernel
theorem dX13_exp_58 : decode cX13_exp 58 = .ok (.iload_n 3, 1) := by decide +kernel
theorem dX13_exp_59 : decode cX13_exp 59 = .ok (.ifCond .eq 12, 3) := by decide +kernel
theorem dX13_exp_62 : decode cX13_exp 62 = .ok (.aload_n 0, 1) := by decide +kernel
theorem dX13_exp_63 : decode cX13_exp 63 = .ok (.iload_n 1, 1) := by decide +kernel
theorem dX13_exp_64 : decode cX13_exp 64 = .ok (.invokevirtual 272, 3) := by decide +kernel
theorem dX13_exp_67 : decode cX13_exp 67 = .ok (.istore_n 3, 1) := by decide +kernel
theorem dX13_exp_68 : decode cX13_exp 68 = .ok (.goto (-22), 3) := by decide +kernel
theorem dX13_exp_71 : decode cX13_exp 71 = .ok (.aload_n 0, 1) := by decide +kernel
theorem dX13_exp_72 : decode cX13_exp 72 = .ok (.bipush 41, 2) := by decide +kernel
theorem dX13_exp_74 : decode cX13_exp 74 = .ok (.invokevirtual 244, 3) := by decide +kernel
theorem dX13_exp_77 : decode cX13_exp 77 = .ok (.ifCond .eq 56, 3) := by decide +kernel
theorem dX13_exp_80 : decode cX13_exp 80 = .ok (.aload_n 0, 1) := by decide +kernel
theorem dX13_exp_81 : decode cX13_exp 81 = .ok (.getfield 269, 3) := by decide +kernel
theorem dX13_exp_84 : decode cX13_exp 84 = .ok (.ifCond .le 49, 3) := by decide +kernel
theorem dX13_exp_87 : decode cX13_exp 87 = .ok (.aload_n 0, 1) := by decide +kernel
theorem dX13_exp_88 : decode cX13_exp 88 = .ok (.iconst 1, 1) := by decide +kernel
theorem dX13_exp_89 : decode cX13_exp 89 = .ok (.invokevirtual 276, 3) := by decide +kernel
theorem dX13_exp_92 : decode cX13_exp 92 = .ok (.aload_n 0, 1) := by decide +kernel
theorem dX13_exp_93 : decode cX13_exp 93 = .ok (.dup, 1) := by decide +kernel
theorem dX13_exp_94 : decode cX13_exp 94 = .ok (.getfield 256, 3) := by decide +kernel
theorem dX13_exp_97 : decode cX13_exp 97 = .ok (.iconst 1, 1) := by decide +kernel
theorem dX13_exp_98 : decode cX13_exp 98 = .ok (.isub, 1) := by decide +kernel
theorem dX13_exp_99 : decode cX13_exp 99 = .ok (.putfield 256, 3) := by decide +kernel
theorem dX13_exp_102 : decode cX13_exp 102 = .ok (.aload_n 0, 1) := by decide +kernel
theorem dX13_exp_103 : decode cX13_exp 103 = .ok (.dup, 1) := by decide +kernel
theorem dX13_exp_104 : decode cX13_exp 104 = .ok (.getfield 269, 3) := by decide +kernel
theorem dX13_exp_107 : decode cX13_exp 107 = .ok (.iconst 1, 1) := by decide +kernel
theorem dX13_exp_108 : decode cX13_exp 108 = .ok (.isub, 1) := by decide +kernel
theorem dX13_exp_109 : decode cX13_exp 109 = .ok (.putfield 269, 3) := by decide +kernel
theorem dX13_exp_112 : decode cX13_exp 112 = .ok (.aload_n 0, 1) := by decide +kernel
theorem dX13_exp_113 : decode cX13_exp 113 = .ok (.dup, 1) := by decide +kernel
theorem dX13_exp_114 : decode cX13_exp 114 = .ok (.getfield 266, 3) := by decide +kernel
theorem dX13_exp_117 : decode cX13_exp 117 = .ok (.iconst 1, 1) := by decide +kernel
theorem dX13_exp_118 : decode cX13_exp 118 = .ok (.isub, 1) := by decide +kernel
theorem dX13_exp_119 : decode cX13_exp 119 = .ok (.putfield 266, 3) := by decide +kernel
theorem dX13_exp_122 : decode cX13_exp 122 = .ok (.aload_n 0, 1) := by decide +kernel
theorem dX13_exp_123 : decode cX13_exp 123 = .ok (.invokevirtual 250, 3) := by decide +kernel
theorem dX13_exp_126 : decode cX13_exp 126 = .ok (.aload_n 0, 1) := by decide +kernel
theorem dX13_exp_127 : decode cX13_exp 127 = .ok (.invokevirtual 280, 3) := by decide +kernel
theorem dX13_exp_130 : decode cX13_exp 130 = .ok (.goto (-84), 3) := by decide +kernel
theorem dX13_exp_133 : decode cX13_exp 133 = .ok (.aload_n 0, 1) := by decide +kernel
theorem dX13_exp_134 : decode cX13_exp 134 = .ok (.getfield 209, 3) := by decide +kernel
theorem dX13_exp_137 : decode cX13_exp 137 = .ok (.iconst 4, 1) := by decide +kernel
theorem dX13_exp_138 : decode cX13_exp 138 = .ok (.if_icmp .ne 14, 3) := by decide +kernel
theorem dX13_exp_141 : decode cX13_exp 141 = .ok (.aload_n 0, 1) := by decide +kernel
theorem dX13_exp_142 : decode cX13_exp 142 = .ok (.getfield 234, 3) := by decide +kernel
theorem dX13_exp_145 : decode cX13_exp 145 = .ok (.invokestatic 259, 3) := by decide +kernel
theorem dX13_exp_148 : decode cX13_exp 148 = .ok (.iconst 1, 1) := by decide +kernel
theorem dX13_exp_149 : decode cX13_exp 149 = .ok (.if_icmp .gt 34, 3) := by decide +kernel
theorem dX13_exp_152 : decode cX13_exp 152 = .ok (.aload_n 0, 1) := by decide +kernel
theorem dX13_exp_153 : decode cX13_exp 153 = .ok (.getfield 209, 3) := by decide +kernel
theorem dX13_exp_156 : decode cX13_exp 156 = .ok (.iconst 4, 1) := by decide +kernel
theorem dX13_exp_157 : decode cX13_exp 157 = .ok (.if_icmp .ne 115, 3) := by decide +kernel
theorem dX13_exp_160 : decode cX13_exp 160 = .ok (.aload_n 0, 1) := by decide +kernel
theorem dX13_exp_161 : decode cX13_exp 161 = .ok (.getfield 234, 3) := by decide +kernel
theorem dX13_exp_164 : decode cX13_exp 164 = .ok (.invokestatic 259, 3) := by decide +kernel
theorem dX13_exp_167 : decode cX13_exp 167 = .ok (.iconst 1, 1) := by decide +kernel
theorem dX13_exp_168 : decode cX13_exp 168 = .ok (.if_icmp .ne 104, 3) := by decide +kernel
theorem dX13_exp_171 : decode cX13_exp 171 = .ok (.aload_n 0, 1) := by decide +kernel
theorem dX13_exp_172 : decode cX13_exp 172 = .ok (.getfield 70, 3) := by decide +kernel
theorem dX13_exp_175 : decode cX13_exp 175 = .ok (.aload_n 0, 1) := by decide +kernel
theorem dX13_exp_176 : decode cX13_exp 176 = .ok (.getfield 269, 3) := by decide +kernel
theorem dX13_exp_179 : decode cX13_exp 179 = .ok (.baload, 1) := by decide +kernel
theorem dX13_exp_180 : decode cX13_exp 180 = .ok (.ifCond .ne 92, 3) := by decide +kernel
theorem dX13_exp_183 : decode cX13_exp 183 = .ok (.aload_n 0, 1) := by decide +kernel
theorem dX13_exp_184 : decode cX13_exp 184 = .ok (.getfield 234, 3) := by decide +kernel
theorem dX13_exp_187 : decode cX13_exp 187 = .ok (.invokestatic 259, 3) := by decide +kernel
theorem dX13_exp_190 : decode cX13_exp 190 = .ok (.istore 5, 2) := by decide +kernel
theorem dX13_exp_192 : decode cX13_exp 192 = .ok (.aload_n 0, 1) := by decide +kernel
theorem dX13_exp_193 : decode cX13_exp 193 = .ok (.getfield 70, 3) := by decide +kernel
theorem dX13_exp_196 : decode cX13_exp 196 = .ok (.aload_n 0, 1) := by decide +kernel
theorem dX13_exp_197 : decode cX13_exp 197 = .ok (.getfield 269, 3) := by decide +kernel
theorem dX13_exp_200 : decode cX13_exp 200 = .ok (.aload_n 0, 1) := by decide +kernel
theorem dX13_exp_201 : decode cX13_exp 201 = .ok (.getfield 70, 3) := by decide +kernel
theorem dX13_exp_204 : decode cX13_exp 204 = .ok (.aload_n 0, 1) := by decide +kernel
theorem dX13_exp_205 : decode cX13_exp 205 = .ok (.getfield 269, 3) := by decide +kernel
theorem dX13_exp_208 : decode cX13_exp 208 = .ok (.baload, 1) := by decide +kernel
theorem dX13_exp_209 : decode cX13_exp 209 = .ok (.ifCond .ne 9, 3) := by decide +kernel
theorem dX13_exp_212 : decode cX13_exp 212 = .ok (.iload 5, 2) := by decide +kernel
theorem dX13_exp_214 : decode cX13_exp 214 = .ok (.iconst 1, 1) := by decide +kernel
theorem dX13_exp_215 : decode cX13_exp 215 = .ok (.if_icmp .ne 7, 3) := by decide +kernel
theorem dX13_exp_218 : decode cX13_exp 218 = .ok (.iconst 1, 1) := by decide +kernel
theorem dX13_exp_219 : decode cX13_exp 219 = .ok (.goto 4, 3) := by decide +kernel
theorem dX13_exp_222 : decode cX13_exp 222 = .ok (.iconst 0, 1) := by decide +kernel
theorem dX13_exp_223 : decode cX13_exp 223 = .ok (.bastore, 1) := by decide +kernel
theorem dX13_exp_224 : decode cX13_exp 224 = .ok (.aload_n 0, 1) := by decide +kernel
theorem dX13_exp_225 : decode cX13_exp 225 = .ok (.iload 5, 2) := by decide +kernel
theorem dX13_exp_227 : decode cX13_exp 227 = .ok (.iconst 1, 1) := by decide +kernel
theorem dX13_exp_228 : decode cX13_exp 228 = .ok (.if_icmp .ne 7, 3) := by decide +kernel
theorem dX13_exp_231 : decode cX13_exp 231 = .ok (.iconst 2, 1) := by decide +kernel
theorem dX13_exp_232 : decode cX13_exp 232 = .ok (.goto 5, 3) := by decide +kernel
theorem dX13_exp_235 : decode cX13_exp 235 = .ok (.iload 5, 2) := by decide +kernel
theorem dX13_exp_237 : decode cX13_exp 237 = .ok (.invokevirtual 276, 3) := by decide +kernel
theorem dX13_exp_240 : decode cX13_exp 240 = .ok (.aload_n 0, 1) := by decide +kernel
theorem dX13_exp_241 : decode cX13_exp 241 = .ok (.getfield 67, 3) := by decide +kernel
theorem dX13_exp_244 : decode cX13_exp 244 = .ok (.aload_n 0, 1) := by decide +kernel
theorem dX13_exp_245 : decode cX13_exp 245 = .ok (.getfield 256, 3) := by decide +kernel
theorem dX13_exp_248 : decode cX13_exp 248 = .ok (.aload_n 0, 1) := by decide +kernel
theorem dX13_exp_249 : decode cX13_exp 249 = .ok (.getfield 234, 3) := by decide +kernel
theorem dX13_exp_252 : decode cX13_exp 252 = .ok (.iastore, 1) := by decide +kernel
theorem dX13_exp_253 : decode cX13_exp 253 = .ok (.aload_n 0, 1) := by decide +kernel
theorem dX13_exp_254 : decode cX13_exp 254 = .ok (.dup, 1) := by decide +kernel
theorem dX13_exp_255 : decode cX13_exp 255 = .ok (.getfield 256, 3) := by decide +kernel
theorem dX13_exp_258 : decode cX13_exp 258 = .ok (.iconst 1, 1) := by decide +kernel
theorem dX13_exp_259 : decode cX13_exp 259 = .ok (.iadd, 1) := by decide +kernel
theorem dX13_exp_260 : decode cX13_exp 260 = .ok (.putfield 256, 3) := by decide +kernel
theorem dX13_exp_263 : decode cX13_exp 263 = .ok (.aload_n 0, 1) := by decide +kernel
theorem dX13_exp_264 : decode cX13_exp 264 = .ok (.invokevirtual 250, 3) := by decide +kernel
theorem dX13_exp_267 : decode cX13_exp 267 = .ok (.iconst 1, 1) := by decide +kernel
theorem dX13_exp_268 : decode cX13_exp 268 = .ok (.istore_n 3, 1) := by decide +kernel
theorem dX13_exp_269 : decode cX13_exp 269 = .ok (.goto (-223), 3) := by decide +kernel
theorem dX13_exp_272 : decode cX13_exp 272 = .ok (.iconst 0, 1) := by decide +kernel
theorem dX13_exp_273 : decode cX13_exp 273 = .ok (.istore 4, 2) := by decide +kernel
theorem dX13_exp_275 : decode cX13_exp 275 = .ok (.goto (-229), 3) := by decide +kernel
theorem dX13_exp_278 : decode cX13_exp 278 = .ok (.aload_n 0, 1) := by decide +kernel
theorem dX13_exp_279 : decode cX13_exp 279 = .ok (.getfield 269, 3) := by decide +kernel
theorem dX13_exp_282 : decode cX13_exp 282 = .ok (.ifCond .le 7, 3) := by decide +kernel
theorem dX13_exp_285 : decode cX13_exp 285 = .ok (.aload_n 0, 1) := by decide +kernel
theorem dX13_exp_286 : decode cX13_exp 286 = .ok (.invokevirtual 247, 3) := by decide +kernel
theorem dX13_exp_289 : decode cX13_exp 289 = .ok (.aload_n 0, 1) := by decide +kernel
theorem dX13_exp_290 : decode cX13_exp 290 = .ok (.iconst 1, 1) := by decide +kernel
theorem dX13_exp_291 : decode cX13_exp 291 = .ok (.invokevirtual 276, 3) := by decide +kernel
theorem dX13_exp_294 : decode cX13_exp 294 = .ok (.aload_n 0, 1) := by decide +kernel
theorem dX13_exp_295 : decode cX13_exp 295 = .ok (.iconst 4, 1) := by decide +kernel
theorem dX13_exp_296 : decode cX13_exp 296 = .ok (.iconst (-1), 1) := by decide +kernel
theorem dX13_exp_297 : decode cX13_exp 297 = .ok (.lconst 0, 1) := by decide +kernel
theorem dX13_exp_298 : decode cX13_exp 298 = .ok (.invokevirtual 262, 3) := by decide +kernel
theorem dX13_exp_301 : decode cX13_exp 301 = .ok (.iload_n 2, 1) := by decide +kernel
theorem dX13_exp_302 : decode cX13_exp 302 = .ok (.ireturn, 1) := by decide +kernel
theorem dX13_feed_0 : decode cX13_feed 0 = .ok (.aload_n 0, 1) := by decide +kernel
theorem dX13_feed_1 : decode cX13_feed 1 = .ok (.iconst 0, 1) := by decide +kernel
theorem dX13_feed_2 : decode cX13_feed 2 = .ok (.putfield 173, 3) := by decide +kernel
theorem dX13_feed_5 : decode cX13_feed 5 = .ok (.aload_n 0, 1) := by decide +kernel
theorem dX13_feed_6 : decode cX13_feed 6 = .ok (.getfield 176, 3) := by decide +kernel
theorem dX13_feed_9 : decode cX13_feed 9 = .ok (.bipush 20, 2) := by decide +kernel
theorem dX13_feed_11 : decode cX13_feed 11 = .ok (.iadd, 1) := by decide +kernel
theorem dX13_feed_12 : decode cX13_feed 12 = .ok (.sipush 800, 3) := by decide +kernel
theorem dX13_feed_15 : decode cX13_feed 15 = .ok (.if_icmp .le 5, 3) := by decide +kernel
theorem dX13_feed_18 : decode cX13_feed 18 = .ok (.iconst (-1), 1) := by decide +kernel
theorem dX13_feed_19 : decode cX13_feed 19 = .ok (.ireturn, 1) := by decide +kernel
theorem dX13_feed_20 : decode cX13_feed 20 = .ok (.iconst 0, 1) := by decide +kernel
theorem dX13_feed_21 : decode cX13_feed 21 = .ok (.istore 6, 2) := by decide +kernel
theorem dX13_feed_23 : decode cX13_feed 23 = .ok (.iload 6, 2) := by decide +kernel
theorem dX13_feed_25 : decode cX13_feed 25 = .ok (.bipush 20, 2) := by decide +kernel
theorem dX13_feed_27 : decode cX13_feed 27 = .ok (.if_icmp .ge 92, 3) := by decide +kernel
theorem dX13_feed_30 : decode cX13_feed 30 = .ok (.iload 6, 2) := by decide +kernel
theorem dX13_feed_32 : decode cX13_feed 32 = .ok (.iconst 4, 1) := by decide +kernel
theorem dX13_feed_33 : decode cX13_feed 33 = .ok (.idiv, 1) := by decide +kernel
theorem dX13_feed_34 : decode cX13_feed 34 = .ok (.istore 7, 2) := by decide +kernel
theorem dX13_feed_36 : decode cX13_feed 36 = .ok (.iload 7, 2) := by decide +kernel
theorem dX13_feed_38 : decode cX13_feed 38 = .ok (.ifCond .ne 7, 3) := by decide +kernel
theorem dX13_feed_41 : decode cX13_feed 41 = .ok (.iload_n 1, 1) := by decide +kernel
theorem dX13_feed_42 : decode cX13_feed 42 = .ok (.goto 36, 3) := by decide +kernel
theorem dX13_feed_45 : decode cX13_feed 45 = .ok (.iload 7, 2) := by decide +kernel
theorem dX13_feed_47 : decode cX13_feed 47 = .ok (.iconst 1, 1) := by decide +kernel
theorem dX13_feed_48 : decode cX13_feed 48 = .ok (.if_icmp .ne 7, 3) := by decide +kernel
theorem dX13_feed_51 : decode cX13_feed 51 = .ok (.iload_n 2, 1) := by decide +kernel
theorem dX13_feed_52 : decode cX13_feed 52 = .ok (.goto 26, 3) := by decide +kernel
theorem dX13_feed_55 : decode cX13_feed 55 = .ok (.iload 7, 2) := by decide +kernel
theorem dX13_feed_57 : decode cX13_feed 57 = .ok (.iconst 2, 1) := by decide +kernel
theorem dX13_feed_58 : decode cX13_feed 58 = .ok (.if_icmp .ne 7, 3) := by decide +kernel
theorem dX13_feed_61 : decode cX13_feed 61 = .ok (.iload_n 3, 1) := by decide +kernel
theorem dX13_feed_62 : decode cX13_feed 62 = .ok (.goto 16, 3) := by decide +kernel
theorem dX13_feed_65 : decode cX13_feed 65 = .ok (.iload 7, 2) := by decide +kernel
theorem dX13_feed_67 : decode cX13_feed 67 = .ok (.iconst 3, 1) := by decide +kernel
theorem dX13_feed_68 : decode cX13_feed 68 = .ok (.if_icmp .ne 8, 3) := by decide +kernel
theorem dX13_feed_71 : decode cX13_feed 71 = .ok (.iload 4, 2) := by decide +kernel
theorem dX13_feed_73 : decode cX13_feed 73 = .ok (.goto 5, 3) := by decide +kernel
theorem dX13_feed_76 : decode cX13_feed 76 = .ok (.iload 5, 2) := by decide +kernel
theorem dX13_feed_78 : decode cX13_feed 78 = .ok (.istore 8, 2) := by decide +kernel
theorem dX13_feed_80 : decode cX13_feed 80 = .ok (.aload_n 0, 1) := by decide +kernel
theorem dX13_feed_81 : decode cX13_feed 81 = .ok (.getfield 7, 3) := by decide +kernel
theorem dX13_feed_84 : decode cX13_feed 84 = .ok (.aload_n 0, 1) := by decide +kernel
theorem dX13_feed_85 : decode cX13_feed 85 = .ok (.getfield 176, 3) := by decide +kernel
theorem dX13_feed_88 : decode cX13_feed 88 = .ok (.iload 8, 2) := by decide +kernel
theorem dX13_feed_90 : decode cX13_feed 90 = .ok (.bipush 24, 2) := by decide +kernel
theorem dX13_feed_92 : decode cX13_feed 92 = .ok (.bipush 8, 2) := by decide +kernel
theorem dX13_feed_94 : decode cX13_feed 94 = .ok (.iload 6, 2) := by decide +kernel
theorem dX13_feed_96 : decode cX13_feed 96 = .ok (.iconst 4, 1) := by decide +kernel
theorem dX13_feed_97 : decode cX13_feed 97 = .ok (.irem, 1) := by decide +kernel
theorem dX13_feed_98 : decode cX13_feed 98 = .ok (.imul, 1) := by decide +kernel
theorem dX13_feed_99 : decode cX13_feed 99 = .ok (.isub, 1) := by decide +kernel
theorem dX13_feed_100 : decode cX13_feed 100 = .ok (.ishr, 1) := by decide +kernel
theorem dX13_feed_101 : decode cX13_feed 101 = .ok (.i2b, 1) := by decide +kernel
theorem dX13_feed_102 : decode cX13_feed 102 = .ok (.bastore, 1) := by decide +kernel
theorem dX13_feed_103 : decode cX13_feed 103 = .ok (.aload_n 0, 1) := by decide +kernel
theorem dX13_feed_104 : decode cX13_feed 104 = .ok (.dup, 1) := by decide +kernel
theorem dX13_feed_105 : decode cX13_feed 105 = .ok (.getfield 176, 3) := by decide +kernel
theorem dX13_feed_108 : decode cX13_feed 108 = .ok (.iconst 1, 1) := by decide +kernel
theorem dX13_feed_109 : decode cX13_feed 109 = .ok (.iadd, 1) := by decide +kernel
theorem dX13_feed_110 : decode cX13_feed 110 = .ok (.putfield 176, 3) := by decide +kernel
theorem dX13_feed_113 : decode cX13_feed 113 = .ok (.iinc 6 1, 3) := by decide +kernel
theorem dX13_feed_116 : decode cX13_feed 116 = .ok (.goto (-93), 3) := by decide +kernel
theorem dX13_feed_119 : decode cX13_feed 119 = .ok (.aload_n 0, 1) := by decide +kernel
theorem dX13_feed_120 : decode cX13_feed 120 = .ok (.getfield 176, 3) := by decide +kernel
theorem dX13_feed_123 : decode cX13_feed 123 = .ok (.ireturn, 1) := by decide +kernel
theorem dX13_firstOf_0 : decode cX13_firstOf 0 = .ok (.aload_n 0, 1) := by decide +kernel
theorem dX13_firstOf_1 : decode cX13_firstOf 1 = .ok (.getfield 95, 3) := by decide +kernel
theorem dX13_firstOf_4 : decode cX13_firstOf 4 = .ok (.bipush 16, 2) := by decide +kernel
theorem dX13_firstOf_6 : decode cX13_firstOf 6 = .ok (.iload_n 1, 1) := by decide +kernel
theorem dX13_firstOf_7 : decode cX13_firstOf 7 = .ok (.imul, 1) := by decide +kernel
theorem dX13_firstOf_8 : decode cX13_firstOf 8 = .ok (.iaload, 1) := by decide +kernel
theorem dX13_firstOf_9 : decode cX13_firstOf 9 = .ok (.ireturn, 1) := by decide +kernel
theorem dX13_goIn_0 : decode cX13_goIn 0 = .ok (.aload_n 0, 1) := by decide +kernel
theorem dX13_goIn_1 : decode cX13_goIn 1 = .ok (.iload_n 2, 1) := by decide +kernel
theorem dX13_goIn_2 : decode cX13_goIn 2 = .ok (.ifCond .lt 7, 3) := by decide +kernel
theorem dX13_goIn_5 : decode cX13_goIn 5 = .ok (.iload_n 2, 1) := by decide +kernel
theorem dX13_goIn_6 : decode cX13_goIn 6 = .ok (.goto 22, 3) := by decide +kernel
theorem dX13_goIn_9 : decode cX13_goIn 9 = .ok (.aload_n 0, 1) := by decide +kernel
theorem dX13_goIn_10 : decode cX13_goIn 10 = .ok (.getfield 33, 3) := by decide +kernel
theorem dX13_goIn_13 : decode cX13_goIn 13 = .ok (.iload_n 1, 1) := by decide +kernel
theorem dX13_goIn_14 : decode cX13_goIn 14 = .ok (.iaload, 1) := by decide +kernel
theorem dX13_goIn_15 : decode cX13_goIn 15 = .ok (.iconst 2, 1) := by decide +kernel
theorem dX13_goIn_16 : decode cX13_goIn 16 = .ok (.if_icmp .ne 7, 3) := by decide +kernel
theorem dX13_goIn_19 : decode cX13_goIn 19 = .ok (.iload_n 1, 1) := by decide +kernel
theorem dX13_goIn_20 : decode cX13_goIn 20 = .ok (.goto 8, 3) := by decide +kernel
theorem dX13_goIn_23 : decode cX13_goIn 23 = .ok (.aload_n 0, 1) := by decide +kernel
theorem dX13_goIn_24 : decode cX13_goIn 24 = .ok (.iload_n 1, 1) := by decide +kernel
theorem dX13_goIn_25 : decode cX13_goIn 25 = .ok (.invokevirtual 354, 3) := by decide +kernel
theorem dX13_goIn_28 : decode cX13_goIn 28 = .ok (.putfield 351, 3) := by decide +kernel
theorem dX13_goIn_31 : decode cX13_goIn 31 = .ok (.return_, 1) := by decide +kernel
theorem dX13_holds_0 : decode cX13_holds 0 = .ok (.aload_n 0, 1) := by decide +kernel
theorem dX13_holds_1 : decode cX13_holds 1 = .ok (.iconst 0, 1) := by decide +kernel
theorem dX13_holds_2 : decode cX13_holds 2 = .ok (.putfield 329, 3) := by decide +kernel
theorem dX13_holds_5 : decode cX13_holds 5 = .ok (.aload_n 0, 1) := by decide +kernel
theorem dX13_holds_6 : decode cX13_holds 6 = .ok (.iload_n 1, 1) := by decide +kernel
theorem dX13_holds_7 : decode cX13_holds 7 = .ok (.iconst 1, 1) := by decide +kernel
theorem dX13_holds_8 : decode cX13_holds 8 = .ok (.invokevirtual 357, 3) := by decide +kernel
theorem dX13_holds_11 : decode cX13_holds 11 = .ok (.lstore_n 2, 1) := by decide +kernel
theorem dX13_holds_12 : decode cX13_holds 12 = .ok (.aload_n 0, 1) := by decide +kernel
theorem dX13_holds_13 : decode cX13_holds 13 = .ok (.getfield 329, 3) := by decide +kernel
theorem dX13_holds_16 : decode cX13_holds 16 = .ok (.ifCond .ne 13, 3) := by decide +kernel
theorem dX13_holds_19 : decode cX13_holds 19 = .ok (.lload_n 2, 1) := by decide +kernel
theorem dX13_holds_20 : decode cX13_holds 20 = .ok (.lconst 0, 1) := by decide +kernel
theorem dX13_holds_21 : decode cX13_holds 21 = .ok (.lcmp, 1) := by decide +kernel
theorem dX13_holds_22 : decode cX13_holds 22 = .ok (.ifCond .eq 7, 3) := by decide +kernel
theorem dX13_holds_25 : decode cX13_holds 25 = .ok (.iconst 1, 1) := by decide +kernel
theorem dX13_holds_26 : decode cX13_holds 26 = .ok (.goto 4, 3) := by decide +kernel
theorem dX13_holds_29 : decode cX13_holds 29 = .ok (.iconst 0, 1) := by decide +kernel
theorem dX13_holds_30 : decode cX13_holds 30 = .ok (.ireturn, 1) := by decide +kernel
theorem dX13_init_0 : decode cX13_init 0 = .ok (.aload_n 0, 1) := by decide +kernel
theorem dX13_init_1 : decode cX13_init 1 = .ok (.invokespecial 1, 3) := by decide +kernel
theorem dX13_init_4 : decode cX13_init 4 = .ok (.aload_n 0, 1) := by decide +kernel
theorem dX13_init_5 : decode cX13_init 5 = .ok (.sipush 800, 3) := by decide +kernel
theorem dX13_init_8 : decode cX13_init 8 = .ok (.newarray .byte, 2) := by decide +kernel
theorem dX13_init_10 : decode cX13_init 10 = .ok (.putfield 7, 3) := by decide +kernel
theorem dX13_init_13 : decode cX13_init 13 = .ok (.aload_n 0, 1) := by decide +kernel
theorem dX13_init_14 : decode cX13_init 14 = .ok (.iconst (-1), 1) := by decide +kernel
theorem dX13_init_15 : decode cX13_init 15 = .ok (.putfield 13, 3) := by decide +kernel
theorem dX13_init_18 : decode cX13_init 18 = .ok (.aload_n 0, 1) := by decide +kernel
theorem dX13_init_19 : decode cX13_init 19 = .ok (.bipush 12, 2) := by decide +kernel
theorem dX13_init_21 : decode cX13_init 21 = .ok (.newarray .int, 2) := by decide +kernel
theorem dX13_init_23 : decode cX13_init 23 = .ok (.putfield 17, 3) := by decide +kernel
theorem dX13_init_26 : decode cX13_init 26 = .ok (.aload_n 0, 1) := by decide +kernel
theorem dX13_init_27 : decode cX13_init 27 = .ok (.bipush 12, 2) := by decide +kernel
theorem dX13_init_29 : decode cX13_init 29 = .ok (.newarray .int, 2) := by decide +kernel
theorem dX13_init_31 : decode cX13_init 31 = .ok (.putfield 21, 3) := by decide +kernel
theorem dX13_init_34 : decode cX13_init 34 = .ok (.aload_n 0, 1) := by decide +kernel
theorem dX13_init_35 : decode cX13_init 35 = .ok (.bipush 12, 2) := by decide +kernel
theorem dX13_init_37 : decode cX13_init 37 = .ok (.newarray .int, 2) := by decide +kernel
theorem dX13_init_39 : decode cX13_init 39 = .ok (.putfield 24, 3) := by decide +kernel
theorem dX13_init_42 : decode cX13_init 42 = .ok (.aload_n 0, 1) := by decide +kernel
theorem dX13_init_43 : decode cX13_init 43 = .ok (.bipush 12, 2) := by decide +kernel
theorem dX13_init_45 : decode cX13_init 45 = .ok (.newarray .int, 2) := by decide +kernel
theorem dX13_init_47 : decode cX13_init 47 = .ok (.putfield 27, 3) := by decide +kernel
theorem dX13_init_50 : decode cX13_init 50 = .ok (.aload_n 0, 1) := by decide +kernel
theorem dX13_init_51 : decode cX13_init 51 = .ok (.bipush 12, 2) := by decide +kernel
theorem dX13_init_53 : decode cX13_init 53 = .ok (.newarray .int, 2) := by decide +kernel
theorem dX13_init_55 : decode cX13_init 55 = .ok (.putfield 30, 3) := by decide +kernel
theorem dX13_init_58 : decode cX13_init 58 = .ok (.aload_n 0, 1) := by decide +kernel
theorem dX13_init_59 : decode cX13_init 59 = .ok (.sipush 480, 3) := by decide +kernel
theorem dX13_init_62 : decode cX13_init 62 = .ok (.newarray .int, 2) := by decide +kernel
theorem dX13_init_64 : decode cX13_init 64 = .ok (.putfield 33, 3) := by decide +kernel
theorem dX13_init_67 : decode cX13_init 67 = .ok (.aload_n 0, 1) := by decide +kernel
theorem dX13_init_68 : decode cX13_init 68 = .ok (.sipush 480, 3) := by decide +kernel
theorem dX13_init_71 : decode cX13_init 71 = .ok (.newarray .int, 2) := by decide +kernel
theorem dX13_init_73 : decode cX13_init 73 = .ok (.putfield 36, 3) := by decide +kernel
theorem dX13_init_76 : decode cX13_init 76 = .ok (.aload_n 0, 1) := by decide +kernel
theorem dX13_init_77 : decode cX13_init 77 = .ok (.sipush 480, 3) := by decide +kernel
theorem dX13_init_80 : decode cX13_init 80 = .ok (.newarray .int, 2) := by decide +kernel
theorem dX13_init_82 : decode cX13_init 82 = .ok (.putfield 39, 3) := by decide +kernel
theorem dX13_init_85 : decode cX13_init 85 = .ok (.aload_n 0, 1) := by decide +kernel
theorem dX13_init_86 : decode cX13_init 86 = .ok (.sipush 480, 3) := by decide +kernel
theorem dX13_init_89 : decode cX13_init 89 = .ok (.newarray .int, 2) := by decide +kernel
theorem dX13_init_91 : decode cX13_init 91 = .ok (.putfield 42, 3) := by decide +kernel
theorem dX13_init_94 : decode cX13_init 94 = .ok (.aload_n 0, 1) := by decide +kernel
theorem dX13_init_95 : decode cX13_init 95 = .ok (.sipush 480, 3) := by decide +kernel
theorem dX13_init_98 : decode cX13_init 98 = .ok (.newarray .int, 2) := by decide +kernel
theorem dX13_init_100 : decode cX13_init 100 = .ok (.putfield 45, 3) := by decide +kernel
theorem dX13_init_103 : decode cX13_init 103 = .ok (.aload_n 0, 1) := by decide +kernel
theorem dX13_init_104 : decode cX13_init 104 = .ok (.sipush 480, 3) := by decide +kernel
theorem dX13_init_107 : decode cX13_init 107 = .ok (.newarray .int, 2) := by decide +kernel
theorem dX13_init_109 : decode cX13_init 109 = .ok (.putfield 48, 3) := by decide +kernel
theorem dX13_init_112 : decode cX13_init 112 = .ok (.aload_n 0, 1) := by decide +kernel
theorem dX13_init_113 : decode cX13_init 113 = .ok (.sipush 480, 3) := by decide +kernel
theorem dX13_init_116 : decode cX13_init 116 = .ok (.newarray .int, 2) := by decide +kernel
theorem dX13_init_118 : decode cX13_init 118 = .ok (.putfield 51, 3) := by decide +kernel
theorem dX13_init_121 : decode cX13_init 121 = .ok (.aload_n 0, 1) := by decide +kernel
theorem dX13_init_122 : decode cX13_init 122 = .ok (.sipush 480, 3) := by decide +kernel
theorem dX13_init_125 : decode cX13_init 125 = .ok (.newarray .int, 2) := by decide +kernel
theorem dX13_init_127 : decode cX13_init 127 = .ok (.putfield 54, 3) := by decide +kernel
theorem dX13_init_130 : decode cX13_init 130 = .ok (.aload_n 0, 1) := by decide +kernel
theorem dX13_init_131 : decode cX13_init 131 = .ok (.sipush 2400, 3) := by decide +kernel
theorem dX13_init_134 : decode cX13_init 134 = .ok (.newarray .int, 2) := by decide +kernel
theorem dX13_init_136 : decode cX13_init 136 = .ok (.putfield 57, 3) := by decide +kernel
theorem dX13_init_139 : decode cX13_init 139 = .ok (.aload_n 0, 1) := by decide +kernel
theorem dX13_init_140 : decode cX13_init 140 = .ok (.sipush 2400, 3) := by decide +kernel
theorem dX13_init_143 : decode cX13_init 143 = .ok (.newarray .int, 2) := by decide +kernel
theorem dX13_init_145 : decode cX13_init 145 = .ok (.putfield 60, 3) := by decide +kernel
theorem dX13_init_148 : decode cX13_init 148 = .ok (.aload_n 0, 1) := by decide +kernel
theorem dX13_init_149 : decode cX13_init 149 = .ok (.sipush 2400, 3) := by decide +kernel
theorem dX13_init_152 : decode cX13_init 152 = .ok (.newarray .long, 2) := by decide +kernel
theorem dX13_init_154 : decode cX13_init 154 = .ok (.putfield 63, 3) := by decide +kernel
theorem dX13_init_157 : decode cX13_init 157 = .ok (.aload_n 0, 1) := by decide +kernel
theorem dX13_init_158 : decode cX13_init 158 = .ok (.bipush 64, 2) := by decide +kernel
theorem dX13_init_160 : decode cX13_init 160 = .ok (.newarray .int, 2) := by decide +kernel
theorem dX13_init_162 : decode cX13_init 162 = .ok (.putfield 67, 3) := by decide +kernel
theorem dX13_init_165 : decode cX13_init 165 = .ok (.aload_n 0, 1) := by decide +kernel
theorem dX13_init_166 : decode cX13_init 166 = .ok (.bipush 16, 2) := by decide +kernel
theorem dX13_init_168 : decode cX13_init 168 = .ok (.newarray .boolean, 2) := by decide +kernel
theorem dX13_init_170 : decode cX13_init 170 = .ok (.putfield 70, 3) := by decide +kernel
theorem dX13_init_173 : decode cX13_init 173 = .ok (.aload_n 0, 1) := by decide +kernel
theorem dX13_init_174 : decode cX13_init 174 = .ok (.bipush 10, 2) := by decide +kernel
theorem dX13_init_176 : decode cX13_init 176 = .ok (.newarray .int, 2) := by decide +kernel
theorem dX13_init_178 : decode cX13_init 178 = .ok (.putfield 74, 3) := by decide +kernel
theorem dX13_init_181 : decode cX13_init 181 = .ok (.aload_n 0, 1) := by decide +kernel
theorem dX13_init_182 : decode cX13_init 182 = .ok (.bipush 10, 2) := by decide +kernel
theorem dX13_init_184 : decode cX13_init 184 = .ok (.newarray .int, 2) := by decide +kernel
theorem dX13_init_186 : decode cX13_init 186 = .ok (.putfield 77, 3) := by decide +kernel
theorem dX13_init_189 : decode cX13_init 189 = .ok (.aload_n 0, 1) := by decide +kernel
theorem dX13_init_190 : decode cX13_init 190 = .ok (.bipush 10, 2) := by decide +kernel
theorem dX13_init_192 : decode cX13_init 192 = .ok (.newarray .int, 2) := by decide +kernel
theorem dX13_init_194 : decode cX13_init 194 = .ok (.putfield 80, 3) := by decide +kernel
theorem dX13_init_197 : decode cX13_init 197 = .ok (.aload_n 0, 1) := by decide +kernel
theorem dX13_init_198 : decode cX13_init 198 = .ok (.bipush 32, 2) := by decide +kernel
theorem dX13_init_200 : decode cX13_init 200 = .ok (.newarray .long, 2) := by decide +kernel
theorem dX13_init_202 : decode cX13_init 202 = .ok (.putfield 83, 3) := by decide +kernel
theorem dX13_init_205 : decode cX13_init 205 = .ok (.aload_n 0, 1) := by decide +kernel
theorem dX13_init_206 : decode cX13_init 206 = .ok (.bipush 32, 2) := by decide +kernel
theorem dX13_init_208 : decode cX13_init 208 = .ok (.newarray .int, 2) := by decide +kernel
theorem dX13_init_210 : decode cX13_init 210 = .ok (.putfield 86, 3) := by decide +kernel
theorem dX13_init_213 : decode cX13_init 213 = .ok (.aload_n 0, 1) := by decide +kernel
theorem dX13_init_214 : decode cX13_init 214 = .ok (.iconst 2, 1) := by decide +kernel
theorem dX13_init_215 : decode cX13_init 215 = .ok (.newarray .int, 2) := by decide +kernel
theorem dX13_init_217 : decode cX13_init 217 = .ok (.putfield 89, 3) := by decide +kernel
theorem dX13_init_220 : decode cX13_init 220 = .ok (.aload_n 0, 1) := by decide +kernel
theorem dX13_init_221 : decode cX13_init 221 = .ok (.bipush 64, 2) := by decide +kernel
theorem dX13_init_223 : decode cX13_init 223 = .ok (.newarray .int, 2) := by decide +kernel
theorem dX13_init_225 : decode cX13_init 225 = .ok (.putfield 92, 3) := by decide +kernel
theorem dX13_init_228 : decode cX13_init 228 = .ok (.aload_n 0, 1) := by decide +kernel
theorem dX13_init_229 : decode cX13_init 229 = .ok (.sipush 128, 3) := by decide +kernel
theorem dX13_init_232 : decode cX13_init 232 = .ok (.newarray .int, 2) := by decide +kernel
theorem dX13_init_234 : decode cX13_init 234 = .ok (.putfield 95, 3) := by decide +kernel
theorem dX13_init_237 : decode cX13_init 237 = .ok (.aload_n 0, 1) := by decide +kernel
theorem dX13_init_238 : decode cX13_init 238 = .ok (.bipush 8, 2) := by decide +kernel
theorem dX13_init_240 : decode cX13_init 240 = .ok (.newarray .int, 2) := by decide +kernel
theorem dX13_init_242 : decode cX13_init 242 = .ok (.putfield 98, 3) := by decide +kernel
theorem dX13_init_245 : decode cX13_init 245 = .ok (.aload_n 0, 1) := by decide +kernel
theorem dX13_init_246 : decode cX13_init 246 = .ok (.bipush 8, 2) := by decide +kernel
theorem dX13_init_248 : decode cX13_init 248 = .ok (.newarray .int, 2) := by decide +kernel
theorem dX13_init_250 : decode cX13_init 250 = .ok (.putfield 101, 3) := by decide +kernel
theorem dX13_init_253 : decode cX13_init 253 = .ok (.aload_n 0, 1) := by decide +kernel
theorem dX13_init_254 : decode cX13_init 254 = .ok (.bipush 8, 2) := by decide +kernel
theorem dX13_init_256 : decode cX13_init 256 = .ok (.newarray .int, 2) := by decide +kernel
theorem dX13_init_258 : decode cX13_init 258 = .ok (.putfield 104, 3) := by decide +kernel
theorem dX13_init_261 : decode cX13_init 261 = .ok (.aload_n 0, 1) := by decide +kernel
theorem dX13_init_262 : decode cX13_init 262 = .ok (.bipush 8, 2) := by decide +kernel
theorem dX13_init_264 : decode cX13_init 264 = .ok (.newarray .int, 2) := by decide +kernel
theorem dX13_init_266 : decode cX13_init 266 = .ok (.putfield 107, 3) := by decide +kernel
theorem dX13_init_269 : decode cX13_init 269 = .ok (.aload_n 0, 1) := by decide +kernel
theorem dX13_init_270 : decode cX13_init 270 = .ok (.bipush 8, 2) := by decide +kernel
theorem dX13_init_272 : decode cX13_init 272 = .ok (.newarray .boolean, 2) := by decide +kernel
theorem dX13_init_274 : decode cX13_init 274 = .ok (.putfield 110, 3) := by decide +kernel
theorem dX13_init_277 : decode cX13_init 277 = .ok (.aload_n 0, 1) := by decide +kernel
theorem dX13_init_278 : decode cX13_init 278 = .ok (.bipush 8, 2) := by decide +kernel
theorem dX13_init_280 : decode cX13_init 280 = .ok (.newarray .int, 2) := by decide +kernel
theorem dX13_init_282 : decode cX13_init 282 = .ok (.putfield 113, 3) := by decide +kernel
theorem dX13_init_285 : decode cX13_init 285 = .ok (.aload_n 0, 1) := by decide +kernel
theorem dX13_init_286 : decode cX13_init 286 = .ok (.sipush 128, 3) := by decide +kernel
theorem dX13_init_289 : decode cX13_init 289 = .ok (.newarray .long, 2) := by decide +kernel
theorem dX13_init_291 : decode cX13_init 291 = .ok (.putfield 116, 3) := by decide +kernel
theorem dX13_init_294 : decode cX13_init 294 = .ok (.aload_n 0, 1) := by decide +kernel
theorem dX13_init_295 : decode cX13_init 295 = .ok (.sipush 128, 3) := by decide +kernel
theorem dX13_init_298 : decode cX13_init 298 = .ok (.newarray .int, 2) := by decide +kernel
theorem dX13_init_300 : decode cX13_init 300 = .ok (.putfield 119, 3) := by decide +kernel
theorem dX13_init_303 : decode cX13_init 303 = .ok (.aload_n 0, 1) := by decide +kernel
theorem dX13_init_304 : decode cX13_init 304 = .ok (.bipush 16, 2) := by decide +kernel
theorem dX13_init_306 : decode cX13_init 306 = .ok (.newarray .long, 2) := by decide +kernel
theorem dX13_init_308 : decode cX13_init 308 = .ok (.putfield 122, 3) := by decide +kernel
theorem dX13_init_311 : decode cX13_init 311 = .ok (.aload_n 0, 1) := by decide +kernel
theorem dX13_init_312 : decode cX13_init 312 = .ok (.bipush 16, 2) := by decide +kernel
theorem dX13_init_314 : decode cX13_init 314 = .ok (.newarray .int, 2) := by decide +kernel
theorem dX13_init_316 : decode cX13_init 316 = .ok (.putfield 125, 3) := by decide +kernel
theorem dX13_init_319 : decode cX13_init 319 = .ok (.aload_n 0, 1) := by decide +kernel
theorem dX13_init_320 : decode cX13_init 320 = .ok (.bipush 16, 2) := by decide +kernel
theorem dX13_init_322 : decode cX13_init 322 = .ok (.newarray .long, 2) := by decide +kernel
theorem dX13_init_324 : decode cX13_init 324 = .ok (.putfield 128, 3) := by decide +kernel
theorem dX13_init_327 : decode cX13_init 327 = .ok (.aload_n 0, 1) := by decide +kernel
theorem dX13_init_328 : decode cX13_init 328 = .ok (.bipush 10, 2) := by decide +kernel
theorem dX13_init_330 : decode cX13_init 330 = .ok (.newarray .long, 2) := by decide +kernel
theorem dX13_init_332 : decode cX13_init 332 = .ok (.putfield 131, 3) := by decide +kernel
theorem dX13_init_335 : decode cX13_init 335 = .ok (.aload_n 0, 1) := by decide +kernel
theorem dX13_init_336 : decode cX13_init 336 = .ok (.sipush 400, 3) := by decide +kernel
theorem dX13_init_339 : decode cX13_init 339 = .ok (.newarray .int, 2) := by decide +kernel
theorem dX13_init_341 : decode cX13_init 341 = .ok (.putfield 134, 3) := by decide +kernel
theorem dX13_init_344 : decode cX13_init 344 = .ok (.aload_n 0, 1) := by decide +kernel
theorem dX13_init_345 : decode cX13_init 345 = .ok (.sipush 480, 3) := by decide +kernel
theorem dX13_init_348 : decode cX13_init 348 = .ok (.newarray .int, 2) := by decide +kernel
theorem dX13_init_350 : decode cX13_init 350 = .ok (.putfield 137, 3) := by decide +kernel
theorem dX13_init_353 : decode cX13_init 353 = .ok (.aload_n 0, 1) := by decide +kernel
theorem dX13_init_354 : decode cX13_init 354 = .ok (.sipush 7680, 3) := by decide +kernel
theorem dX13_init_357 : decode cX13_init 357 = .ok (.newarray .long, 2) := by decide +kernel
theorem dX13_init_359 : decode cX13_init 359 = .ok (.putfield 140, 3) := by decide +kernel
theorem dX13_init_362 : decode cX13_init 362 = .ok (.aload_n 0, 1) := by decide +kernel
theorem dX13_init_363 : decode cX13_init 363 = .ok (.sipush 4800, 3) := by decide +kernel
theorem dX13_init_366 : decode cX13_init 366 = .ok (.newarray .long, 2) := by decide +kernel
theorem dX13_init_368 : decode cX13_init 368 = .ok (.putfield 143, 3) := by decide +kernel
theorem dX13_init_371 : decode cX13_init 371 = .ok (.aload_n 0, 1) := by decide +kernel
theorem dX13_init_372 : decode cX13_init 372 = .ok (.sipush 480, 3) := by decide +kernel
theorem dX13_init_375 : decode cX13_init 375 = .ok (.newarray .int, 2) := by decide +kernel
theorem dX13_init_377 : decode cX13_init 377 = .ok (.putfield 146, 3) := by decide +kernel
theorem dX13_init_380 : decode cX13_init 380 = .ok (.aload_n 0, 1) := by decide +kernel
theorem dX13_init_381 : decode cX13_init 381 = .ok (.bipush 64, 2) := by decide +kernel
theorem dX13_init_383 : decode cX13_init 383 = .ok (.newarray .long, 2) := by decide +kernel
theorem dX13_init_385 : decode cX13_init 385 = .ok (.putfield 149, 3) := by decide +kernel
theorem dX13_init_388 : decode cX13_init 388 = .ok (.aload_n 0, 1) := by decide +kernel
theorem dX13_init_389 : decode cX13_init 389 = .ok (.bipush 16, 2) := by decide +kernel
theorem dX13_init_391 : decode cX13_init 391 = .ok (.newarray .long, 2) := by decide +kernel
theorem dX13_init_393 : decode cX13_init 393 = .ok (.putfield 152, 3) := by decide +kernel
theorem dX13_init_396 : decode cX13_init 396 = .ok (.aload_n 0, 1) := by decide +kernel
theorem dX13_init_397 : decode cX13_init 397 = .ok (.sipush 300, 3) := by decide +kernel
theorem dX13_init_400 : decode cX13_init 400 = .ok (.newarray .int, 2) := by decide +kernel
theorem dX13_init_402 : decode cX13_init 402 = .ok (.putfield 155, 3) := by decide +kernel
theorem dX13_init_405 : decode cX13_init 405 = .ok (.aload_n 0, 1) := by decide +kernel
theorem dX13_init_406 : decode cX13_init 406 = .ok (.sipush 300, 3) := by decide +kernel
theorem dX13_init_409 : decode cX13_init 409 = .ok (.newarray .int, 2) := by decide +kernel
theorem dX13_init_411 : decode cX13_init 411 = .ok (.putfield 158, 3) := by decide +kernel
theorem dX13_init_414 : decode cX13_init 414 = .ok (.aload_n 0, 1) := by decide +kernel
theorem dX13_init_415 : decode cX13_init 415 = .ok (.sipush 300, 3) := by decide +kernel
theorem dX13_init_418 : decode cX13_init 418 = .ok (.newarray .int, 2) := by decide +kernel
theorem dX13_init_420 : decode cX13_init 420 = .ok (.putfield 161, 3) := by decide +kernel
theorem dX13_init_423 : decode cX13_init 423 = .ok (.aload_n 0, 1) := by decide +kernel
theorem dX13_init_424 : decode cX13_init 424 = .ok (.sipush 300, 3) := by decide +kernel
theorem dX13_init_427 : decode cX13_init 427 = .ok (.newarray .int, 2) := by decide +kernel
theorem dX13_init_429 : decode cX13_init 429 = .ok (.putfield 164, 3) := by decide +kernel
theorem dX13_init_432 : decode cX13_init 432 = .ok (.aload_n 0, 1) := by decide +kernel
theorem dX13_init_433 : decode cX13_init 433 = .ok (.sipush 300, 3) := by decide +kernel
theorem dX13_init_436 : decode cX13_init 436 = .ok (.newarray .int, 2) := by decide +kernel
theorem dX13_init_438 : decode cX13_init 438 = .ok (.putfield 167, 3) := by decide +kernel
theorem dX13_init_441 : decode cX13_init 441 = .ok (.aload_n 0, 1) := by decide +kernel
theorem dX13_init_442 : decode cX13_init 442 = .ok (.sipush 300, 3) := by decide +kernel
theorem dX13_init_445 : decode cX13_init 445 = .ok (.newarray .long, 2) := by decide +kernel
theorem dX13_init_447 : decode cX13_init 447 = .ok (.putfield 170, 3) := by decide +kernel
theorem dX13_init_450 : decode cX13_init 450 = .ok (.return_, 1) := by decide +kernel
theorem dX13_isChanged_0 : decode cX13_isChanged 0 = .ok (.iconst 0, 1) := by decide +kernel
theorem dX13_isChanged_1 : decode cX13_isChanged 1 = .ok (.istore_n 1, 1) := by decide +kernel
theorem dX13_isChanged_2 : decode cX13_isChanged 2 = .ok (.iload_n 1, 1) := by decide +kernel
theorem dX13_isChanged_3 : decode cX13_isChanged 3 = .ok (.bipush 16, 2) := by decide +kernel
theorem dX13_isChanged_5 : decode cX13_isChanged 5 = .ok (.if_icmp .ge 46, 3) := by decide +kernel
theorem dX13_isChanged_8 : decode cX13_isChanged 8 = .ok (.aload_n 0, 1) := by decide +kernel
theorem dX13_isChanged_9 : decode cX13_isChanged 9 = .ok (.getfield 316, 3) := by decide +kernel
theorem dX13_isChanged_12 : decode cX13_isChanged 12 = .ok (.iload_n 1, 1) := by decide +kernel
theorem dX13_isChanged_13 : decode cX13_isChanged 13 = .ok (.ishr, 1) := by decide +kernel
theorem dX13_isChanged_14 : decode cX13_isChanged 14 = .ok (.iconst 1, 1) := by decide +kernel
theorem dX13_isChanged_15 : decode cX13_isChanged 15 = .ok (.iand, 1) := by decide +kernel
theorem dX13_isChanged_16 : decode cX13_isChanged 16 = .ok (.iconst 1, 1) := by decide +kernel
theorem dX13_isChanged_17 : decode cX13_isChanged 17 = .ok (.if_icmp .ne 28, 3) := by decide +kernel
theorem dX13_isChanged_20 : decode cX13_isChanged 20 = .ok (.aload_n 0, 1) := by decide +kernel
theorem dX13_isChanged_21 : decode cX13_isChanged 21 = .ok (.getfield 125, 3) := by decide +kernel
theorem dX13_isChanged_24 : decode cX13_isChanged 24 = .ok (.iload_n 1, 1) := by decide +kernel
theorem dX13_isChanged_25 : decode cX13_isChanged 25 = .ok (.iaload, 1) := by decide +kernel
theorem dX13_isChanged_26 : decode cX13_isChanged 26 = .ok (.aload_n 0, 1) := by decide +kernel
theorem dX13_isChanged_27 : decode cX13_isChanged 27 = .ok (.getfield 86, 3) := by decide +kernel
theorem dX13_isChanged_30 : decode cX13_isChanged 30 = .ok (.bipush 16, 2) := by decide +kernel
theorem dX13_isChanged_32 : decode cX13_isChanged 32 = .ok (.aload_n 0, 1) := by decide +kernel
theorem dX13_isChanged_33 : decode cX13_isChanged 33 = .ok (.getfield 319, 3) := by decide +kernel
theorem dX13_isChanged_36 : decode cX13_isChanged 36 = .ok (.imul, 1) := by decide +kernel
theorem dX13_isChanged_37 : decode cX13_isChanged 37 = .ok (.iload_n 1, 1) := by decide +kernel
theorem dX13_isChanged_38 : decode cX13_isChanged 38 = .ok (.iadd, 1) := by decide +kernel
theorem dX13_isChanged_39 : decode cX13_isChanged 39 = .ok (.iaload, 1) := by decide +kernel
theorem dX13_isChanged_40 : decode cX13_isChanged 40 = .ok (.if_icmp .eq 5, 3) := by decide +kernel
theorem dX13_isChanged_43 : decode cX13_isChanged 43 = .ok (.iconst 1, 1) := by decide +kernel
theorem dX13_isChanged_44 : decode cX13_isChanged 44 = .ok (.ireturn, 1) := by decide +kernel
theorem dX13_isChanged_45 : decode cX13_isChanged 45 = .ok (.iinc 1 1, 3) := by decide +kernel
theorem dX13_isChanged_48 : decode cX13_isChanged 48 = .ok (.goto (-46), 3) := by decide +kernel
theorem dX13_isChanged_51 : decode cX13_isChanged 51 = .ok (.iconst 0, 1) := by decide +kernel
theorem dX13_isChanged_52 : decode cX13_isChanged 52 = .ok (.ireturn, 1) := by decide +kernel
theorem dX13_isClient_0 : decode cX13_isClient 0 = .ok (.iload_n 1, 1) := by decide +kernel
theorem dX13_isClient_1 : decode cX13_isClient 1 = .ok (.ifCond .lt 13, 3) := by decide +kernel
theorem dX13_isClient_4 : decode cX13_isClient 4 = .ok (.iload_n 1, 1) := by decide +kernel
theorem dX13_isClient_5 : decode cX13_isClient 5 = .ok (.bipush 8, 2) := by decide +kernel
theorem dX13_isClient_7 : decode cX13_isClient 7 = .ok (.if_icmp .ge 7, 3) := by decide +kernel
theorem dX13_isClient_10 : decode cX13_isClient 10 = .ok (.iconst 1, 1) := by decide +kernel
theorem dX13_isClient_11 : decode cX13_isClient 11 = .ok (.goto 4, 3) := by decide +kernel
theorem dX13_isClient_14 : decode cX13_isClient 14 = .ok (.iconst 0, 1) := by decide +kernel
theorem dX13_isClient_15 : decode cX13_isClient 15 = .ok (.ireturn, 1) := by decide +kernel
theorem dX13_isFigure_0 : decode cX13_isFigure 0 = .ok (.iload_n 0, 1) := by decide +kernel
theorem dX13_isFigure_1 : decode cX13_isFigure 1 = .ok (.bipush 48, 2) := by decide +kernel
theorem dX13_isFigure_3 : decode cX13_isFigure 3 = .ok (.if_icmp .lt 13, 3) := by decide +kernel
theorem dX13_isFigure_6 : decode cX13_isFigure 6 = .ok (.iload_n 0, 1) := by decide +kernel
theorem dX13_isFigure_7 : decode cX13_isFigure 7 = .ok (.bipush 57, 2) := by decide +kernel
theorem dX13_isFigure_9 : decode cX13_isFigure 9 = .ok (.if_icmp .gt 7, 3) := by decide +kernel
theorem dX13_isFigure_12 : decode cX13_isFigure 12 = .ok (.iconst 1, 1) := by decide +kernel
theorem dX13_isFigure_13 : decode cX13_isFigure 13 = .ok (.goto 4, 3) := by decide +kernel
theorem dX13_isFigure_16 : decode cX13_isFigure 16 = .ok (.iconst 0, 1) := by decide +kernel
theorem dX13_isFigure_17 : decode cX13_isFigure 17 = .ok (.ireturn, 1) := by decide +kernel
theorem dX13_isHeld_0 : decode cX13_isHeld 0 = .ok (.iconst 0, 1) := by decide +kernel
theorem dX13_isHeld_1 : decode cX13_isHeld 1 = .ok (.istore_n 2, 1) := by decide +kernel
theorem dX13_isHeld_2 : decode cX13_isHeld 2 = .ok (.iconst 0, 1) := by decide +kernel
theorem dX13_isHeld_3 : decode cX13_isHeld 3 = .ok (.istore_n 3, 1) := by decide +kernel
theorem dX13_isHeld_4 : decode cX13_isHeld 4 = .ok (.iload_n 3, 1) := by decide +kernel
theorem dX13_isHeld_5 : decode cX13_isHeld 5 = .ok (.bipush 8, 2) := by decide +kernel
theorem dX13_isHeld_7 : decode cX13_isHeld 7 = .ok (.if_icmp .ge 33, 3) := by decide +kernel
theorem dX13_isHeld_10 : decode cX13_isHeld 10 = .ok (.iload_n 2, 1) := by decide +kernel
theorem dX13_isHeld_11 : decode cX13_isHeld 11 = .ok (.ifCond .ne 17, 3) := by decide +kernel
theorem dX13_isHeld_14 : decode cX13_isHeld 14 = .ok (.iload_n 3, 1) := by decide +kernel
theorem dX13_isHeld_15 : decode cX13_isHeld 15 = .ok (.iload_n 1, 1) := by decide +kernel
theorem dX13_isHeld_16 : decode cX13_isHeld 16 = .ok (.if_icmp .eq 16, 3) := by decide +kernel
theorem dX13_isHeld_19 : decode cX13_isHeld 19 = .ok (.aload_n 0, 1) := by decide +kernel
theorem dX13_isHeld_20 : decode cX13_isHeld 20 = .ok (.getfield 110, 3) := by decide +kernel
theorem dX13_isHeld_23 : decode cX13_isHeld 23 = .ok (.iload_n 3, 1) := by decide +kernel
theorem dX13_isHeld_24 : decode cX13_isHeld 24 = .ok (.baload, 1) := by decide +kernel
theorem dX13_isHeld_25 : decode cX13_isHeld 25 = .ok (.ifCond .eq 7, 3) := by decide +kernel
theorem dX13_isHeld_28 : decode cX13_isHeld 28 = .ok (.iconst 1, 1) := by decide +kernel
theorem dX13_isHeld_29 : decode cX13_isHeld 29 = .ok (.goto 4, 3) := by decide +kernel
theorem dX13_isHeld_32 : decode cX13_isHeld 32 = .ok (.iconst 0, 1) := by decide +kernel
theorem dX13_isHeld_33 : decode cX13_isHeld 33 = .ok (.istore_n 2, 1) := by decide +kernel
theorem dX13_isHeld_34 : decode cX13_isHeld 34 = .ok (.iinc 3 1, 3) := by decide +kernel
theorem dX13_isHeld_37 : decode cX13_isHeld 37 = .ok (.goto (-33), 3) := by decide +kernel
theorem dX13_isHeld_40 : decode cX13_isHeld 40 = .ok (.iload_n 2, 1) := by decide +kernel
theorem dX13_isHeld_41 : decode cX13_isHeld 41 = .ok (.ifCond .eq 16, 3) := by decide +kernel
theorem dX13_isHeld_44 : decode cX13_isHeld 44 = .ok (.aload_n 0, 1) := by decide +kernel
theorem dX13_isHeld_45 : decode cX13_isHeld 45 = .ok (.getfield 110, 3) := by decide +kernel
theorem dX13_isHeld_48 : decode cX13_isHeld 48 = .ok (.iload_n 1, 1) := by decide +kernel
theorem dX13_isHeld_49 : decode cX13_isHeld 49 = .ok (.baload, 1) := by decide +kernel
theorem dX13_isHeld_50 : decode cX13_isHeld 50 = .ok (.ifCond .ne 7, 3) := by decide +kernel
theorem dX13_isHeld_53 : decode cX13_isHeld 53 = .ok (.iconst 1, 1) := by decide +kernel
theorem dX13_isHeld_54 : decode cX13_isHeld 54 = .ok (.goto 4, 3) := by decide +kernel
theorem dX13_isHeld_57 : decode cX13_isHeld 57 = .ok (.iconst 0, 1) := by decide +kernel
theorem dX13_isHeld_58 : decode cX13_isHeld 58 = .ok (.ireturn, 1) := by decide +kernel
