/-! decode rows (by a program) -/
set_option maxRecDepth 100000
theorem dX0_add_0 : decode cX0_add 0 = .ok (.iload_n 1, 1) := by decide +kernel
theorem dX0_add_1 : decode cX0_add 1 = .ok (.invokestatic 120, 3) := by decide +kernel
theorem dX0_add_4 : decode cX0_add 4 = .ok (.ifCond .eq 25, 3) := by decide +kernel
theorem dX0_add_7 : decode cX0_add 7 = .ok (.aload_n 0, 1) := by decide +kernel
theorem dX0_add_8 : decode cX0_add 8 = .ok (.iload_n 2, 1) := by decide +kernel
theorem dX0_add_9 : decode cX0_add 9 = .ok (.invokevirtual 79, 3) := by decide +kernel
theorem dX0_add_12 : decode cX0_add 12 = .ok (.ifCond .eq 17, 3) := by decide +kernel
theorem dX0_add_15 : decode cX0_add 15 = .ok (.aload_n 0, 1) := by decide +kernel
theorem dX0_add_16 : decode cX0_add 16 = .ok (.getfield 35, 3) := by decide +kernel
theorem dX0_add_19 : decode cX0_add 19 = .ok (.iload_n 1, 1) := by decide +kernel
theorem dX0_add_20 : decode cX0_add 20 = .ok (.aaload, 1) := by decide +kernel
theorem dX0_add_21 : decode cX0_add 21 = .ok (.getfield 123, 3) := by decide +kernel
theorem dX0_add_24 : decode cX0_add 24 = .ok (.bipush 16, 2) := by decide +kernel
theorem dX0_add_26 : decode cX0_add 26 = .ok (.if_icmp .ne 5, 3) := by decide +kernel
theorem dX0_add_29 : decode cX0_add 29 = .ok (.iconst (-1), 1) := by decide +kernel
theorem dX0_add_30 : decode cX0_add 30 = .ok (.ireturn, 1) := by decide +kernel
theorem dX0_add_31 : decode cX0_add 31 = .ok (.aload_n 0, 1) := by decide +kernel
theorem dX0_add_32 : decode cX0_add 32 = .ok (.getfield 35, 3) := by decide +kernel
theorem dX0_add_35 : decode cX0_add 35 = .ok (.iload_n 1, 1) := by decide +kernel
theorem dX0_add_36 : decode cX0_add 36 = .ok (.aaload, 1) := by decide +kernel
theorem dX0_add_37 : decode cX0_add 37 = .ok (.astore_n 3, 1) := by decide +kernel
theorem dX0_add_38 : decode cX0_add 38 = .ok (.aload_n 3, 1) := by decide +kernel
theorem dX0_add_39 : decode cX0_add 39 = .ok (.getfield 124, 3) := by decide +kernel
theorem dX0_add_42 : decode cX0_add 42 = .ok (.aload_n 3, 1) := by decide +kernel
theorem dX0_add_43 : decode cX0_add 43 = .ok (.getfield 123, 3) := by decide +kernel
theorem dX0_add_46 : decode cX0_add 46 = .ok (.iload_n 2, 1) := by decide +kernel
theorem dX0_add_47 : decode cX0_add 47 = .ok (.iastore, 1) := by decide +kernel
theorem dX0_add_48 : decode cX0_add 48 = .ok (.aload_n 3, 1) := by decide +kernel
theorem dX0_add_49 : decode cX0_add 49 = .ok (.dup, 1) := by decide +kernel
theorem dX0_add_50 : decode cX0_add 50 = .ok (.getfield 123, 3) := by decide +kernel
theorem dX0_add_53 : decode cX0_add 53 = .ok (.iconst 1, 1) := by decide +kernel
theorem dX0_add_54 : decode cX0_add 54 = .ok (.iadd, 1) := by decide +kernel
theorem dX0_add_55 : decode cX0_add 55 = .ok (.putfield 123, 3) := by decide +kernel
theorem dX0_add_58 : decode cX0_add 58 = .ok (.aload_n 3, 1) := by decide +kernel
theorem dX0_add_59 : decode cX0_add 59 = .ok (.getfield 127, 3) := by decide +kernel
theorem dX0_add_62 : decode cX0_add 62 = .ok (.getstatic 131, 3) := by decide +kernel
theorem dX0_add_65 : decode cX0_add 65 = .ok (.if_acmp .ne 10, 3) := by decide +kernel
theorem dX0_add_68 : decode cX0_add 68 = .ok (.aload_n 3, 1) := by decide +kernel
theorem dX0_add_69 : decode cX0_add 69 = .ok (.getstatic 136, 3) := by decide +kernel
theorem dX0_add_72 : decode cX0_add 72 = .ok (.putfield 127, 3) := by decide +kernel
theorem dX0_add_75 : decode cX0_add 75 = .ok (.aload_n 3, 1) := by decide +kernel
theorem dX0_add_76 : decode cX0_add 76 = .ok (.getfield 123, 3) := by decide +kernel
theorem dX0_add_79 : decode cX0_add 79 = .ok (.ireturn, 1) := by decide +kernel
theorem dX0_cell_0 : decode cX0_cell 0 = .ok (.iload_n 1, 1) := by decide +kernel
theorem dX0_cell_1 : decode cX0_cell 1 = .ok (.invokestatic 92, 3) := by decide +kernel
theorem dX0_cell_4 : decode cX0_cell 4 = .ok (.ifCond .eq 15, 3) := by decide +kernel
theorem dX0_cell_7 : decode cX0_cell 7 = .ok (.aload_n 0, 1) := by decide +kernel
theorem dX0_cell_8 : decode cX0_cell 8 = .ok (.getfield 29, 3) := by decide +kernel
theorem dX0_cell_11 : decode cX0_cell 11 = .ok (.getfield 98, 3) := by decide +kernel
theorem dX0_cell_14 : decode cX0_cell 14 = .ok (.iload_n 1, 1) := by decide +kernel
theorem dX0_cell_15 : decode cX0_cell 15 = .ok (.laload, 1) := by decide +kernel
theorem dX0_cell_16 : decode cX0_cell 16 = .ok (.goto 4, 3) := by decide +kernel
theorem dX0_cell_19 : decode cX0_cell 19 = .ok (.lconst 0, 1) := by decide +kernel
theorem dX0_cell_20 : decode cX0_cell 20 = .ok (.lreturn, 1) := by decide +kernel
theorem dX0_clear_0 : decode cX0_clear 0 = .ok (.aload_n 0, 1) := by decide +kernel
theorem dX0_clear_1 : decode cX0_clear 1 = .ok (.getfield 42, 3) := by decide +kernel
theorem dX0_clear_4 : decode cX0_clear 4 = .ok (.getfield 95, 3) := by decide +kernel
theorem dX0_clear_7 : decode cX0_clear 7 = .ok (.istore_n 1, 1) := by decide +kernel
theorem dX0_clear_8 : decode cX0_clear 8 = .ok (.aload_n 0, 1) := by decide +kernel
theorem dX0_clear_9 : decode cX0_clear 9 = .ok (.getfield 42, 3) := by decide +kernel
theorem dX0_clear_12 : decode cX0_clear 12 = .ok (.iconst 0, 1) := by decide +kernel
theorem dX0_clear_13 : decode cX0_clear 13 = .ok (.putfield 95, 3) := by decide +kernel
theorem dX0_clear_16 : decode cX0_clear 16 = .ok (.aload_n 0, 1) := by decide +kernel
theorem dX0_clear_17 : decode cX0_clear 17 = .ok (.getfield 29, 3) := by decide +kernel
theorem dX0_clear_20 : decode cX0_clear 20 = .ok (.invokevirtual 277, 3) := by decide +kernel
theorem dX0_clear_23 : decode cX0_clear 23 = .ok (.iconst 0, 1) := by decide +kernel
theorem dX0_clear_24 : decode cX0_clear 24 = .ok (.istore_n 2, 1) := by decide +kernel
theorem dX0_clear_25 : decode cX0_clear 25 = .ok (.iload_n 2, 1) := by decide +kernel
theorem dX0_clear_26 : decode cX0_clear 26 = .ok (.bipush 8, 2) := by decide +kernel
theorem dX0_clear_28 : decode cX0_clear 28 = .ok (.if_icmp .ge 18, 3) := by decide +kernel
theorem dX0_clear_31 : decode cX0_clear 31 = .ok (.aload_n 0, 1) := by decide +kernel
theorem dX0_clear_32 : decode cX0_clear 32 = .ok (.getfield 35, 3) := by decide +kernel
theorem dX0_clear_35 : decode cX0_clear 35 = .ok (.iload_n 2, 1) := by decide +kernel
theorem dX0_clear_36 : decode cX0_clear 36 = .ok (.aaload, 1) := by decide +kernel
theorem dX0_clear_37 : decode cX0_clear 37 = .ok (.invokevirtual 286, 3) := by decide +kernel
theorem dX0_clear_40 : decode cX0_clear 40 = .ok (.iinc 2 1, 3) := by decide +kernel
theorem dX0_clear_43 : decode cX0_clear 43 = .ok (.goto (-18), 3) := by decide +kernel
theorem dX0_clear_46 : decode cX0_clear 46 = .ok (.iload_n 1, 1) := by decide +kernel
theorem dX0_clear_47 : decode cX0_clear 47 = .ok (.ireturn, 1) := by decide +kernel
theorem dX0_client_0 : decode cX0_client 0 = .ok (.iload_n 1, 1) := by decide +kernel
theorem dX0_client_1 : decode cX0_client 1 = .ok (.invokestatic 120, 3) := by decide +kernel
theorem dX0_client_4 : decode cX0_client 4 = .ok (.ifCond .ne 5, 3) := by decide +kernel
theorem dX0_client_7 : decode cX0_client 7 = .ok (.iconst (-1), 1) := by decide +kernel
theorem dX0_client_8 : decode cX0_client 8 = .ok (.ireturn, 1) := by decide +kernel
theorem dX0_client_9 : decode cX0_client 9 = .ok (.aload_n 0, 1) := by decide +kernel
theorem dX0_client_10 : decode cX0_client 10 = .ok (.getfield 35, 3) := by decide +kernel
theorem dX0_client_13 : decode cX0_client 13 = .ok (.iload_n 1, 1) := by decide +kernel
theorem dX0_client_14 : decode cX0_client 14 = .ok (.aaload, 1) := by decide +kernel
theorem dX0_client_15 : decode cX0_client 15 = .ok (.astore_n 3, 1) := by decide +kernel
theorem dX0_client_16 : decode cX0_client 16 = .ok (.aload_n 3, 1) := by decide +kernel
theorem dX0_client_17 : decode cX0_client 17 = .ok (.getfield 127, 3) := by decide +kernel
theorem dX0_client_20 : decode cX0_client 20 = .ok (.getstatic 157, 3) := by decide +kernel
theorem dX0_client_23 : decode cX0_client 23 = .ok (.if_acmp .ne 7, 3) := by decide +kernel
theorem dX0_client_26 : decode cX0_client 26 = .ok (.iconst 1, 1) := by decide +kernel
theorem dX0_client_27 : decode cX0_client 27 = .ok (.goto 4, 3) := by decide +kernel
theorem dX0_client_30 : decode cX0_client 30 = .ok (.iconst 0, 1) := by decide +kernel
theorem dX0_client_31 : decode cX0_client 31 = .ok (.istore 4, 2) := by decide +kernel
theorem dX0_client_33 : decode cX0_client 33 = .ok (.iload_n 2, 1) := by decide +kernel
theorem dX0_client_34 : decode cX0_client 34 = .ok (.tableswitch 183 0 8 #[50, 58, 63, 81, 86, 103, 130, 150, 163], 50) := by decide +kernel
theorem dX0_client_84 : decode cX0_client 84 = .ok (.aload_n 3, 1) := by decide +kernel
theorem dX0_client_85 : decode cX0_client 85 = .ok (.getfield 127, 3) := by decide +kernel
theorem dX0_client_88 : decode cX0_client 88 = .ok (.invokevirtual 232, 3) := by decide +kernel
theorem dX0_client_91 : decode cX0_client 91 = .ok (.ireturn, 1) := by decide +kernel
theorem dX0_client_92 : decode cX0_client 92 = .ok (.aload_n 3, 1) := by decide +kernel
theorem dX0_client_93 : decode cX0_client 93 = .ok (.getfield 123, 3) := by decide +kernel
theorem dX0_client_96 : decode cX0_client 96 = .ok (.ireturn, 1) := by decide +kernel
theorem dX0_client_97 : decode cX0_client 97 = .ok (.aload_n 3, 1) := by decide +kernel
theorem dX0_client_98 : decode cX0_client 98 = .ok (.getfield 123, 3) := by decide +kernel
theorem dX0_client_101 : decode cX0_client 101 = .ok (.ifCond .ne 7, 3) := by decide +kernel
theorem dX0_client_104 : decode cX0_client 104 = .ok (.iconst (-1), 1) := by decide +kernel
theorem dX0_client_105 : decode cX0_client 105 = .ok (.goto 9, 3) := by decide +kernel
theorem dX0_client_108 : decode cX0_client 108 = .ok (.aload_n 3, 1) := by decide +kernel
theorem dX0_client_109 : decode cX0_client 109 = .ok (.getfield 124, 3) := by decide +kernel
theorem dX0_client_112 : decode cX0_client 112 = .ok (.iconst 0, 1) := by decide +kernel
theorem dX0_client_113 : decode cX0_client 113 = .ok (.iaload, 1) := by decide +kernel
theorem dX0_client_114 : decode cX0_client 114 = .ok (.ireturn, 1) := by decide +kernel
theorem dX0_client_115 : decode cX0_client 115 = .ok (.aload_n 3, 1) := by decide +kernel
theorem dX0_client_116 : decode cX0_client 116 = .ok (.getfield 216, 3) := by decide +kernel
theorem dX0_client_119 : decode cX0_client 119 = .ok (.ireturn, 1) := by decide +kernel
theorem dX0_client_120 : decode cX0_client 120 = .ok (.iload 4, 2) := by decide +kernel
theorem dX0_client_122 : decode cX0_client 122 = .ok (.ifCond .eq 13, 3) := by decide +kernel
theorem dX0_client_125 : decode cX0_client 125 = .ok (.aload_n 3, 1) := by decide +kernel
theorem dX0_client_126 : decode cX0_client 126 = .ok (.getfield 57, 3) := by decide +kernel
theorem dX0_client_129 : decode cX0_client 129 = .ok (.getfield 213, 3) := by decide +kernel
theorem dX0_client_132 : decode cX0_client 132 = .ok (.goto 4, 3) := by decide +kernel
theorem dX0_client_135 : decode cX0_client 135 = .ok (.iconst 0, 1) := by decide +kernel
theorem dX0_client_136 : decode cX0_client 136 = .ok (.ireturn, 1) := by decide +kernel
theorem dX0_client_137 : decode cX0_client 137 = .ok (.iload 4, 2) := by decide +kernel
theorem dX0_client_139 : decode cX0_client 139 = .ok (.ifCond .ne 13, 3) := by decide +kernel
theorem dX0_client_142 : decode cX0_client 142 = .ok (.aload_n 3, 1) := by decide +kernel
theorem dX0_client_143 : decode cX0_client 143 = .ok (.getfield 127, 3) := by decide +kernel
theorem dX0_client_146 : decode cX0_client 146 = .ok (.getstatic 148, 3) := by decide +kernel
theorem dX0_client_149 : decode cX0_client 149 = .ok (.if_acmp .ne 13, 3) := by decide +kernel
theorem dX0_client_152 : decode cX0_client 152 = .ok (.aload_n 3, 1) := by decide +kernel
theorem dX0_client_153 : decode cX0_client 153 = .ok (.getfield 57, 3) := by decide +kernel
theorem dX0_client_156 : decode cX0_client 156 = .ok (.getfield 233, 3) := by decide +kernel
theorem dX0_client_159 : decode cX0_client 159 = .ok (.goto 4, 3) := by decide +kernel
theorem dX0_client_162 : decode cX0_client 162 = .ok (.iconst 0, 1) := by decide +kernel
theorem dX0_client_163 : decode cX0_client 163 = .ok (.ireturn, 1) := by decide +kernel
theorem dX0_client_164 : decode cX0_client 164 = .ok (.iload 4, 2) := by decide +kernel
theorem dX0_client_166 : decode cX0_client 166 = .ok (.ifCond .eq 16, 3) := by decide +kernel
theorem dX0_client_169 : decode cX0_client 169 = .ok (.aload_n 3, 1) := by decide +kernel
theorem dX0_client_170 : decode cX0_client 170 = .ok (.getfield 57, 3) := by decide +kernel
theorem dX0_client_173 : decode cX0_client 173 = .ok (.getfield 236, 3) := by decide +kernel
theorem dX0_client_176 : decode cX0_client 176 = .ok (.getfield 240, 3) := by decide +kernel
theorem dX0_client_179 : decode cX0_client 179 = .ok (.goto 4, 3) := by decide +kernel
theorem dX0_client_182 : decode cX0_client 182 = .ok (.iconst 0, 1) := by decide +kernel
theorem dX0_client_183 : decode cX0_client 183 = .ok (.ireturn, 1) := by decide +kernel
theorem dX0_client_184 : decode cX0_client 184 = .ok (.aload_n 3, 1) := by decide +kernel
theorem dX0_client_185 : decode cX0_client 185 = .ok (.getfield 181, 3) := by decide +kernel
theorem dX0_client_188 : decode cX0_client 188 = .ok (.ifCond .eq 7, 3) := by decide +kernel
theorem dX0_client_191 : decode cX0_client 191 = .ok (.iconst 1, 1) := by decide +kernel
theorem dX0_client_192 : decode cX0_client 192 = .ok (.goto 4, 3) := by decide +kernel
theorem dX0_client_195 : decode cX0_client 195 = .ok (.iconst 0, 1) := by decide +kernel
theorem dX0_client_196 : decode cX0_client 196 = .ok (.ireturn, 1) := by decide +kernel
theorem dX0_client_197 : decode cX0_client 197 = .ok (.iload 4, 2) := by decide +kernel
theorem dX0_client_199 : decode cX0_client 199 = .ok (.ifCond .eq 16, 3) := by decide +kernel
theorem dX0_client_202 : decode cX0_client 202 = .ok (.aload_n 3, 1) := by decide +kernel
theorem dX0_client_203 : decode cX0_client 203 = .ok (.getfield 57, 3) := by decide +kernel
theorem dX0_client_206 : decode cX0_client 206 = .ok (.getfield 236, 3) := by decide +kernel
theorem dX0_client_209 : decode cX0_client 209 = .ok (.getfield 245, 3) := by decide +kernel
theorem dX0_client_212 : decode cX0_client 212 = .ok (.goto 4, 3) := by decide +kernel
theorem dX0_client_215 : decode cX0_client 215 = .ok (.iconst 0, 1) := by decide +kernel
theorem dX0_client_216 : decode cX0_client 216 = .ok (.ireturn, 1) := by decide +kernel
theorem dX0_client_217 : decode cX0_client 217 = .ok (.iconst (-1), 1) := by decide +kernel
theorem dX0_client_218 : decode cX0_client 218 = .ok (.ireturn, 1) := by decide +kernel
theorem dX0_end_0 : decode cX0_end 0 = .ok (.iload_n 1, 1) := by decide +kernel
theorem dX0_end_1 : decode cX0_end 1 = .ok (.ifCond .lt 18, 3) := by decide +kernel
theorem dX0_end_4 : decode cX0_end 4 = .ok (.iload_n 1, 1) := by decide +kernel
theorem dX0_end_5 : decode cX0_end 5 = .ok (.bipush 20, 2) := by decide +kernel
theorem dX0_end_7 : decode cX0_end 7 = .ok (.if_icmp .gt 12, 3) := by decide +kernel
theorem dX0_end_10 : decode cX0_end 10 = .ok (.aload_n 0, 1) := by decide +kernel
theorem dX0_end_11 : decode cX0_end 11 = .ok (.getfield 61, 3) := by decide +kernel
theorem dX0_end_14 : decode cX0_end 14 = .ok (.bipush 20, 2) := by decide +kernel
theorem dX0_end_16 : decode cX0_end 16 = .ok (.if_icmp .ge 5, 3) := by decide +kernel
theorem dX0_end_19 : decode cX0_end 19 = .ok (.iconst (-1), 1) := by decide +kernel
theorem dX0_end_20 : decode cX0_end 20 = .ok (.ireturn, 1) := by decide +kernel
theorem dX0_end_21 : decode cX0_end 21 = .ok (.aload_n 0, 1) := by decide +kernel
theorem dX0_end_22 : decode cX0_end 22 = .ok (.dup, 1) := by decide +kernel
theorem dX0_end_23 : decode cX0_end 23 = .ok (.getfield 61, 3) := by decide +kernel
theorem dX0_end_26 : decode cX0_end 26 = .ok (.bipush 20, 2) := by decide +kernel
theorem dX0_end_28 : decode cX0_end 28 = .ok (.iload_n 1, 1) := by decide +kernel
theorem dX0_end_29 : decode cX0_end 29 = .ok (.isub, 1) := by decide +kernel
theorem dX0_end_30 : decode cX0_end 30 = .ok (.isub, 1) := by decide +kernel
theorem dX0_end_31 : decode cX0_end 31 = .ok (.putfield 61, 3) := by decide +kernel
theorem dX0_end_34 : decode cX0_end 34 = .ok (.aload_n 0, 1) := by decide +kernel
theorem dX0_end_35 : decode cX0_end 35 = .ok (.getfield 61, 3) := by decide +kernel
theorem dX0_end_38 : decode cX0_end 38 = .ok (.ireturn, 1) := by decide +kernel
theorem dX0_ended_0 : decode cX0_ended 0 = .ok (.aload_n 0, 1) := by decide +kernel
theorem dX0_ended_1 : decode cX0_ended 1 = .ok (.getfield 35, 3) := by decide +kernel
theorem dX0_ended_4 : decode cX0_ended 4 = .ok (.iload_n 1, 1) := by decide +kernel
theorem dX0_ended_5 : decode cX0_ended 5 = .ok (.aaload, 1) := by decide +kernel
theorem dX0_ended_6 : decode cX0_ended 6 = .ok (.astore_n 3, 1) := by decide +kernel
theorem dX0_ended_7 : decode cX0_ended 7 = .ok (.aload_n 0, 1) := by decide +kernel
theorem dX0_ended_8 : decode cX0_ended 8 = .ok (.iload_n 1, 1) := by decide +kernel
theorem dX0_ended_9 : decode cX0_ended 9 = .ok (.invokevirtual 185, 3) := by decide +kernel
theorem dX0_ended_12 : decode cX0_ended 12 = .ok (.ifCond .eq 17, 3) := by decide +kernel
theorem dX0_ended_15 : decode cX0_ended 15 = .ok (.aload_n 3, 1) := by decide +kernel
theorem dX0_ended_16 : decode cX0_ended 16 = .ok (.getfield 57, 3) := by decide +kernel
theorem dX0_ended_19 : decode cX0_ended 19 = .ok (.invokevirtual 188, 3) := by decide +kernel
theorem dX0_ended_22 : decode cX0_ended 22 = .ok (.getstatic 191, 3) := by decide +kernel
theorem dX0_ended_25 : decode cX0_ended 25 = .ok (.invokevirtual 144, 3) := by decide +kernel
theorem dX0_ended_28 : decode cX0_ended 28 = .ok (.ireturn, 1) := by decide +kernel
theorem dX0_ended_29 : decode cX0_ended 29 = .ok (.aload_n 0, 1) := by decide +kernel
theorem dX0_ended_30 : decode cX0_ended 30 = .ok (.getfield 42, 3) := by decide +kernel
theorem dX0_ended_33 : decode cX0_ended 33 = .ok (.getfield 95, 3) := by decide +kernel
theorem dX0_ended_36 : decode cX0_ended 36 = .ok (.sipush 300, 3) := by decide +kernel
theorem dX0_ended_39 : decode cX0_ended 39 = .ok (.if_icmp .ne 12, 3) := by decide +kernel
theorem dX0_ended_42 : decode cX0_ended 42 = .ok (.aload_n 3, 1) := by decide +kernel
theorem dX0_ended_43 : decode cX0_ended 43 = .ok (.getfield 57, 3) := by decide +kernel
theorem dX0_ended_46 : decode cX0_ended 46 = .ok (.invokevirtual 188, 3) := by decide +kernel
theorem dX0_ended_49 : decode cX0_ended 49 = .ok (.iconst (-1), 1) := by decide +kernel
theorem dX0_ended_50 : decode cX0_ended 50 = .ok (.ireturn, 1) := by decide +kernel
theorem dX0_ended_51 : decode cX0_ended 51 = .ok (.aload_n 2, 1) := by decide +kernel
theorem dX0_ended_52 : decode cX0_ended 52 = .ok (.getstatic 194, 3) := by decide +kernel
theorem dX0_ended_55 : decode cX0_ended 55 = .ok (.if_acmp .ne 17, 3) := by decide +kernel
theorem dX0_ended_58 : decode cX0_ended 58 = .ok (.aload_n 3, 1) := by decide +kernel
theorem dX0_ended_59 : decode cX0_ended 59 = .ok (.getfield 57, 3) := by decide +kernel
theorem dX0_ended_62 : decode cX0_ended 62 = .ok (.invokevirtual 197, 3) := by decide +kernel
theorem dX0_ended_65 : decode cX0_ended 65 = .ok (.ifCond .eq 7, 3) := by decide +kernel
theorem dX0_ended_68 : decode cX0_ended 68 = .ok (.iconst 1, 1) := by decide +kernel
theorem dX0_ended_69 : decode cX0_ended 69 = .ok (.goto 4, 3) := by decide +kernel
theorem dX0_ended_72 : decode cX0_ended 72 = .ok (.iconst 0, 1) := by decide +kernel
theorem dX0_ended_73 : decode cX0_ended 73 = .ok (.istore 4, 2) := by decide +kernel
theorem dX0_ended_75 : decode cX0_ended 75 = .ok (.iload 4, 2) := by decide +kernel
theorem dX0_ended_77 : decode cX0_ended 77 = .ok (.ifCond .eq 7, 3) := by decide +kernel
theorem dX0_ended_80 : decode cX0_ended 80 = .ok (.lconst 0, 1) := by decide +kernel
theorem dX0_ended_81 : decode cX0_ended 81 = .ok (.goto 23, 3) := by decide +kernel
theorem dX0_ended_84 : decode cX0_ended 84 = .ok (.aload_n 2, 1) := by decide +kernel
theorem dX0_ended_85 : decode cX0_ended 85 = .ok (.getstatic 194, 3) := by decide +kernel
theorem dX0_ended_88 : decode cX0_ended 88 = .ok (.if_acmp .ne 9, 3) := by decide +kernel
theorem dX0_ended_91 : decode cX0_ended 91 = .ok (.ldc2_w 199, 3) := by decide +kernel
theorem dX0_ended_94 : decode cX0_ended 94 = .ok (.goto 10, 3) := by decide +kernel
theorem dX0_ended_97 : decode cX0_ended 97 = .ok (.aload_n 3, 1) := by decide +kernel
theorem dX0_ended_98 : decode cX0_ended 98 = .ok (.getfield 57, 3) := by decide +kernel
theorem dX0_ended_101 : decode cX0_ended 101 = .ok (.getfield 201, 3) := by decide +kernel
theorem dX0_ended_104 : decode cX0_ended 104 = .ok (.lstore 5, 2) := by decide +kernel
theorem dX0_ended_106 : decode cX0_ended 106 = .ok (.iload 4, 2) := by decide +kernel
theorem dX0_ended_108 : decode cX0_ended 108 = .ok (.ifCond .eq 10, 3) := by decide +kernel
theorem dX0_ended_111 : decode cX0_ended 111 = .ok (.aload_n 3, 1) := by decide +kernel
theorem dX0_ended_112 : decode cX0_ended 112 = .ok (.getfield 57, 3) := by decide +kernel
theorem dX0_ended_115 : decode cX0_ended 115 = .ok (.invokevirtual 205, 3) := by decide +kernel
theorem dX0_ended_118 : decode cX0_ended 118 = .ok (.aload_n 0, 1) := by decide +kernel
theorem dX0_ended_119 : decode cX0_ended 119 = .ok (.getfield 42, 3) := by decide +kernel
theorem dX0_ended_122 : decode cX0_ended 122 = .ok (.iload 4, 2) := by decide +kernel
theorem dX0_ended_124 : decode cX0_ended 124 = .ok (.ifCond .eq 9, 3) := by decide +kernel
theorem dX0_ended_127 : decode cX0_ended 127 = .ok (.getstatic 208, 3) := by decide +kernel
theorem dX0_ended_130 : decode cX0_ended 130 = .ok (.goto 6, 3) := by decide +kernel
theorem dX0_ended_133 : decode cX0_ended 133 = .ok (.getstatic 210, 3) := by decide +kernel
theorem dX0_ended_136 : decode cX0_ended 136 = .ok (.iload_n 1, 1) := by decide +kernel
theorem dX0_ended_137 : decode cX0_ended 137 = .ok (.aload_n 3, 1) := by decide +kernel
theorem dX0_ended_138 : decode cX0_ended 138 = .ok (.getfield 124, 3) := by decide +kernel
theorem dX0_ended_141 : decode cX0_ended 141 = .ok (.iconst 0, 1) := by decide +kernel
theorem dX0_ended_142 : decode cX0_ended 142 = .ok (.iaload, 1) := by decide +kernel
theorem dX0_ended_143 : decode cX0_ended 143 = .ok (.aload_n 3, 1) := by decide +kernel
theorem dX0_ended_144 : decode cX0_ended 144 = .ok (.getfield 57, 3) := by decide +kernel
theorem dX0_ended_147 : decode cX0_ended 147 = .ok (.getfield 213, 3) := by decide +kernel
theorem dX0_ended_150 : decode cX0_ended 150 = .ok (.iconst 1, 1) := by decide +kernel
theorem dX0_ended_151 : decode cX0_ended 151 = .ok (.iadd, 1) := by decide +kernel
theorem dX0_ended_152 : decode cX0_ended 152 = .ok (.aload_n 3, 1) := by decide +kernel
theorem dX0_ended_153 : decode cX0_ended 153 = .ok (.getfield 216, 3) := by decide +kernel
theorem dX0_ended_156 : decode cX0_ended 156 = .ok (.lload 5, 2) := by decide +kernel
theorem dX0_ended_158 : decode cX0_ended 158 = .ok (.invokevirtual 116, 3) := by decide +kernel
theorem dX0_ended_161 : decode cX0_ended 161 = .ok (.aload_n 3, 1) := by decide +kernel
theorem dX0_ended_162 : decode cX0_ended 162 = .ok (.invokevirtual 219, 3) := by decide +kernel
theorem dX0_ended_165 : decode cX0_ended 165 = .ok (.iload 4, 2) := by decide +kernel
theorem dX0_ended_167 : decode cX0_ended 167 = .ok (.ifCond .eq 12, 3) := by decide +kernel
theorem dX0_ended_170 : decode cX0_ended 170 = .ok (.getstatic 194, 3) := by decide +kernel
theorem dX0_ended_173 : decode cX0_ended 173 = .ok (.invokevirtual 144, 3) := by decide +kernel
theorem dX0_ended_176 : decode cX0_ended 176 = .ok (.goto 9, 3) := by decide +kernel
theorem dX0_ended_179 : decode cX0_ended 179 = .ok (.getstatic 222, 3) := by decide +kernel
theorem dX0_ended_182 : decode cX0_ended 182 = .ok (.invokevirtual 144, 3) := by decide +kernel
theorem dX0_ended_185 : decode cX0_ended 185 = .ok (.ireturn, 1) := by decide +kernel
theorem dX0_feed_0 : decode cX0_feed 0 = .ok (.aload_n 0, 1) := by decide +kernel
theorem dX0_feed_1 : decode cX0_feed 1 = .ok (.getfield 61, 3) := by decide +kernel
theorem dX0_feed_4 : decode cX0_feed 4 = .ok (.bipush 20, 2) := by decide +kernel
theorem dX0_feed_6 : decode cX0_feed 6 = .ok (.iadd, 1) := by decide +kernel
theorem dX0_feed_7 : decode cX0_feed 7 = .ok (.sipush 800, 3) := by decide +kernel
theorem dX0_feed_10 : decode cX0_feed 10 = .ok (.if_icmp .le 5, 3) := by decide +kernel
theorem dX0_feed_13 : decode cX0_feed 13 = .ok (.iconst (-1), 1) := by decide +kernel
theorem dX0_feed_14 : decode cX0_feed 14 = .ok (.ireturn, 1) := by decide +kernel
theorem dX0_feed_15 : decode cX0_feed 15 = .ok (.aload_n 0, 1) := by decide +kernel
theorem dX0_feed_16 : decode cX0_feed 16 = .ok (.iload_n 1, 1) := by decide +kernel
theorem dX0_feed_17 : decode cX0_feed 17 = .ok (.invokevirtual 65, 3) := by decide +kernel
theorem dX0_feed_20 : decode cX0_feed 20 = .ok (.aload_n 0, 1) := by decide +kernel
theorem dX0_feed_21 : decode cX0_feed 21 = .ok (.iload_n 2, 1) := by decide +kernel
theorem dX0_feed_22 : decode cX0_feed 22 = .ok (.invokevirtual 65, 3) := by decide +kernel
theorem dX0_feed_25 : decode cX0_feed 25 = .ok (.aload_n 0, 1) := by decide +kernel
theorem dX0_feed_26 : decode cX0_feed 26 = .ok (.iload_n 3, 1) := by decide +kernel
theorem dX0_feed_27 : decode cX0_feed 27 = .ok (.invokevirtual 65, 3) := by decide +kernel
theorem dX0_feed_30 : decode cX0_feed 30 = .ok (.aload_n 0, 1) := by decide +kernel
theorem dX0_feed_31 : decode cX0_feed 31 = .ok (.iload 4, 2) := by decide +kernel
theorem dX0_feed_33 : decode cX0_feed 33 = .ok (.invokevirtual 65, 3) := by decide +kernel
theorem dX0_feed_36 : decode cX0_feed 36 = .ok (.aload_n 0, 1) := by decide +kernel
theorem dX0_feed_37 : decode cX0_feed 37 = .ok (.iload 5, 2) := by decide +kernel
theorem dX0_feed_39 : decode cX0_feed 39 = .ok (.invokevirtual 65, 3) := by decide +kernel
theorem dX0_feed_42 : decode cX0_feed 42 = .ok (.aload_n 0, 1) := by decide +kernel
theorem dX0_feed_43 : decode cX0_feed 43 = .ok (.getfield 61, 3) := by decide +kernel
theorem dX0_feed_46 : decode cX0_feed 46 = .ok (.ireturn, 1) := by decide +kernel
theorem dX0_four_0 : decode cX0_four 0 = .ok (.bipush 24, 2) := by decide +kernel
theorem dX0_four_2 : decode cX0_four 2 = .ok (.istore_n 2, 1) := by decide +kernel
theorem dX0_four_3 : decode cX0_four 3 = .ok (.iload_n 2, 1) := by decide +kernel
theorem dX0_four_4 : decode cX0_four 4 = .ok (.ifCond .lt 32, 3) := by decide +kernel
theorem dX0_four_7 : decode cX0_four 7 = .ok (.aload_n 0, 1) := by decide +kernel
theorem dX0_four_8 : decode cX0_four 8 = .ok (.getfield 9, 3) := by decide +kernel
theorem dX0_four_11 : decode cX0_four 11 = .ok (.aload_n 0, 1) := by decide +kernel
theorem dX0_four_12 : decode cX0_four 12 = .ok (.getfield 61, 3) := by decide +kernel
theorem dX0_four_15 : decode cX0_four 15 = .ok (.iload_n 1, 1) := by decide +kernel
theorem dX0_four_16 : decode cX0_four 16 = .ok (.iload_n 2, 1) := by decide +kernel
theorem dX0_four_17 : decode cX0_four 17 = .ok (.ishr, 1) := by decide +kernel
theorem dX0_four_18 : decode cX0_four 18 = .ok (.i2b, 1) := by decide +kernel
theorem dX0_four_19 : decode cX0_four 19 = .ok (.bastore, 1) := by decide +kernel
theorem dX0_four_20 : decode cX0_four 20 = .ok (.aload_n 0, 1) := by decide +kernel
theorem dX0_four_21 : decode cX0_four 21 = .ok (.dup, 1) := by decide +kernel
theorem dX0_four_22 : decode cX0_four 22 = .ok (.getfield 61, 3) := by decide +kernel
theorem dX0_four_25 : decode cX0_four 25 = .ok (.iconst 1, 1) := by decide +kernel
theorem dX0_four_26 : decode cX0_four 26 = .ok (.iadd, 1) := by decide +kernel
theorem dX0_four_27 : decode cX0_four 27 = .ok (.putfield 61, 3) := by decide +kernel
theorem dX0_four_30 : decode cX0_four 30 = .ok (.iinc 2 (-8), 3) := by decide +kernel
theorem dX0_four_33 : decode cX0_four 33 = .ok (.goto (-30), 3) := by decide +kernel
theorem dX0_four_36 : decode cX0_four 36 = .ok (.return_, 1) := by decide +kernel
theorem dX0_init_0 : decode cX0_init 0 = .ok (.aload_n 0, 1) := by decide +kernel
theorem dX0_init_1 : decode cX0_init 1 = .ok (.invokespecial 3, 3) := by decide +kernel
theorem dX0_init_4 : decode cX0_init 4 = .ok (.aload_n 0, 1) := by decide +kernel
theorem dX0_init_5 : decode cX0_init 5 = .ok (.sipush 820, 3) := by decide +kernel
theorem dX0_init_8 : decode cX0_init 8 = .ok (.newarray .byte, 2) := by decide +kernel
theorem dX0_init_10 : decode cX0_init 10 = .ok (.putfield 9, 3) := by decide +kernel
theorem dX0_init_13 : decode cX0_init 13 = .ok (.aload_n 0, 1) := by decide +kernel
theorem dX0_init_14 : decode cX0_init 14 = .ok (.new 13, 3) := by decide +kernel
theorem dX0_init_17 : decode cX0_init 17 = .ok (.dup, 1) := by decide +kernel
theorem dX0_init_18 : decode cX0_init 18 = .ok (.invokespecial 15, 3) := by decide +kernel
theorem dX0_init_21 : decode cX0_init 21 = .ok (.putfield 16, 3) := by decide +kernel
theorem dX0_init_24 : decode cX0_init 24 = .ok (.aload_n 0, 1) := by decide +kernel
theorem dX0_init_25 : decode cX0_init 25 = .ok (.bipush 12, 2) := by decide +kernel
theorem dX0_init_27 : decode cX0_init 27 = .ok (.anewarray 20, 3) := by decide +kernel
theorem dX0_init_30 : decode cX0_init 30 = .ok (.putfield 22, 3) := by decide +kernel
theorem dX0_init_33 : decode cX0_init 33 = .ok (.aload_n 0, 1) := by decide +kernel
theorem dX0_init_34 : decode cX0_init 34 = .ok (.new 26, 3) := by decide +kernel
theorem dX0_init_37 : decode cX0_init 37 = .ok (.dup, 1) := by decide +kernel
theorem dX0_init_38 : decode cX0_init 38 = .ok (.invokespecial 28, 3) := by decide +kernel
theorem dX0_init_41 : decode cX0_init 41 = .ok (.putfield 29, 3) := by decide +kernel
theorem dX0_init_44 : decode cX0_init 44 = .ok (.aload_n 0, 1) := by decide +kernel
theorem dX0_init_45 : decode cX0_init 45 = .ok (.bipush 8, 2) := by decide +kernel
theorem dX0_init_47 : decode cX0_init 47 = .ok (.anewarray 33, 3) := by decide +kernel
theorem dX0_init_50 : decode cX0_init 50 = .ok (.putfield 35, 3) := by decide +kernel
theorem dX0_init_53 : decode cX0_init 53 = .ok (.aload_n 0, 1) := by decide +kernel
theorem dX0_init_54 : decode cX0_init 54 = .ok (.new 39, 3) := by decide +kernel
theorem dX0_init_57 : decode cX0_init 57 = .ok (.dup, 1) := by decide +kernel
theorem dX0_init_58 : decode cX0_init 58 = .ok (.invokespecial 41, 3) := by decide +kernel
theorem dX0_init_61 : decode cX0_init 61 = .ok (.putfield 42, 3) := by decide +kernel
theorem dX0_init_64 : decode cX0_init 64 = .ok (.aload_n 0, 1) := by decide +kernel
theorem dX0_init_65 : decode cX0_init 65 = .ok (.new 26, 3) := by decide +kernel
theorem dX0_init_68 : decode cX0_init 68 = .ok (.dup, 1) := by decide +kernel
theorem dX0_init_69 : decode cX0_init 69 = .ok (.invokespecial 28, 3) := by decide +kernel
theorem dX0_init_72 : decode cX0_init 72 = .ok (.putfield 46, 3) := by decide +kernel
theorem dX0_init_75 : decode cX0_init 75 = .ok (.aload_n 0, 1) := by decide +kernel
theorem dX0_init_76 : decode cX0_init 76 = .ok (.new 49, 3) := by decide +kernel
theorem dX0_init_79 : decode cX0_init 79 = .ok (.dup, 1) := by decide +kernel
theorem dX0_init_80 : decode cX0_init 80 = .ok (.invokespecial 51, 3) := by decide +kernel
theorem dX0_init_83 : decode cX0_init 83 = .ok (.putfield 52, 3) := by decide +kernel
theorem dX0_init_86 : decode cX0_init 86 = .ok (.iconst 0, 1) := by decide +kernel
theorem dX0_init_87 : decode cX0_init 87 = .ok (.istore_n 1, 1) := by decide +kernel
theorem dX0_init_88 : decode cX0_init 88 = .ok (.iload_n 1, 1) := by decide +kernel
theorem dX0_init_89 : decode cX0_init 89 = .ok (.bipush 8, 2) := by decide +kernel
theorem dX0_init_91 : decode cX0_init 91 = .ok (.if_icmp .ge 38, 3) := by decide +kernel
theorem dX0_init_94 : decode cX0_init 94 = .ok (.aload_n 0, 1) := by decide +kernel
theorem dX0_init_95 : decode cX0_init 95 = .ok (.getfield 35, 3) := by decide +kernel
theorem dX0_init_98 : decode cX0_init 98 = .ok (.iload_n 1, 1) := by decide +kernel
theorem dX0_init_99 : decode cX0_init 99 = .ok (.new 33, 3) := by decide +kernel
theorem dX0_init_102 : decode cX0_init 102 = .ok (.dup, 1) := by decide +kernel
theorem dX0_init_103 : decode cX0_init 103 = .ok (.invokespecial 56, 3) := by decide +kernel
theorem dX0_init_106 : decode cX0_init 106 = .ok (.aastore, 1) := by decide +kernel
theorem dX0_init_107 : decode cX0_init 107 = .ok (.aload_n 0, 1) := by decide +kernel
theorem dX0_init_108 : decode cX0_init 108 = .ok (.getfield 35, 3) := by decide +kernel
theorem dX0_init_111 : decode cX0_init 111 = .ok (.iload_n 1, 1) := by decide +kernel
theorem dX0_init_112 : decode cX0_init 112 = .ok (.aaload, 1) := by decide +kernel
theorem dX0_init_113 : decode cX0_init 113 = .ok (.getfield 57, 3) := by decide +kernel
theorem dX0_init_116 : decode cX0_init 116 = .ok (.aload_n 0, 1) := by decide +kernel
theorem dX0_init_117 : decode cX0_init 117 = .ok (.getfield 29, 3) := by decide +kernel
theorem dX0_init_120 : decode cX0_init 120 = .ok (.putfield 60, 3) := by decide +kernel
theorem dX0_init_123 : decode cX0_init 123 = .ok (.iinc 1 1, 3) := by decide +kernel
theorem dX0_init_126 : decode cX0_init 126 = .ok (.goto (-38), 3) := by decide +kernel
theorem dX0_init_129 : decode cX0_init 129 = .ok (.aload_n 0, 1) := by decide +kernel
theorem dX0_init_130 : decode cX0_init 130 = .ok (.getfield 52, 3) := by decide +kernel
theorem dX0_init_133 : decode cX0_init 133 = .ok (.aload_n 0, 1) := by decide +kernel
theorem dX0_init_134 : decode cX0_init 134 = .ok (.getfield 46, 3) := by decide +kernel
theorem dX0_init_137 : decode cX0_init 137 = .ok (.putfield 60, 3) := by decide +kernel
theorem dX0_init_140 : decode cX0_init 140 = .ok (.return_, 1) := by decide +kernel
theorem dX0_isCell_0 : decode cX0_isCell 0 = .ok (.iload_n 0, 1) := by decide +kernel
theorem dX0_isCell_1 : decode cX0_isCell 1 = .ok (.ifCond .lt 13, 3) := by decide +kernel
theorem dX0_isCell_4 : decode cX0_isCell 4 = .ok (.iload_n 0, 1) := by decide +kernel
theorem dX0_isCell_5 : decode cX0_isCell 5 = .ok (.bipush 16, 2) := by decide +kernel
theorem dX0_isCell_7 : decode cX0_isCell 7 = .ok (.if_icmp .ge 7, 3) := by decide +kernel
theorem dX0_isCell_10 : decode cX0_isCell 10 = .ok (.iconst 1, 1) := by decide +kernel
theorem dX0_isCell_11 : decode cX0_isCell 11 = .ok (.goto 4, 3) := by decide +kernel
theorem dX0_isCell_14 : decode cX0_isCell 14 = .ok (.iconst 0, 1) := by decide +kernel
theorem dX0_isCell_15 : decode cX0_isCell 15 = .ok (.ireturn, 1) := by decide +kernel
theorem dX0_isClient_0 : decode cX0_isClient 0 = .ok (.iload_n 0, 1) := by decide +kernel
theorem dX0_isClient_1 : decode cX0_isClient 1 = .ok (.ifCond .lt 13, 3) := by decide +kernel
theorem dX0_isClient_4 : decode cX0_isClient 4 = .ok (.iload_n 0, 1) := by decide +kernel
theorem dX0_isClient_5 : decode cX0_isClient 5 = .ok (.bipush 8, 2) := by decide +kernel
theorem dX0_isClient_7 : decode cX0_isClient 7 = .ok (.if_icmp .ge 7, 3) := by decide +kernel
theorem dX0_isClient_10 : decode cX0_isClient 10 = .ok (.iconst 1, 1) := by decide +kernel
theorem dX0_isClient_11 : decode cX0_isClient 11 = .ok (.goto 4, 3) := by decide +kernel
theorem dX0_isClient_14 : decode cX0_isClient 14 = .ok (.iconst 0, 1) := by decide +kernel
theorem dX0_isClient_15 : decode cX0_isClient 15 = .ok (.ireturn, 1) := by decide +kernel
theorem dX0_isHeld_0 : decode cX0_isHeld 0 = .ok (.iconst 0, 1) := by decide +kernel
theorem dX0_isHeld_1 : decode cX0_isHeld 1 = .ok (.istore_n 2, 1) := by decide +kernel
theorem dX0_isHeld_2 : decode cX0_isHeld 2 = .ok (.iconst 0, 1) := by decide +kernel
theorem dX0_isHeld_3 : decode cX0_isHeld 3 = .ok (.istore_n 3, 1) := by decide +kernel
theorem dX0_isHeld_4 : decode cX0_isHeld 4 = .ok (.iload_n 3, 1) := by decide +kernel
theorem dX0_isHeld_5 : decode cX0_isHeld 5 = .ok (.bipush 8, 2) := by decide +kernel
theorem dX0_isHeld_7 : decode cX0_isHeld 7 = .ok (.if_icmp .ge 34, 3) := by decide +kernel
theorem dX0_isHeld_10 : decode cX0_isHeld 10 = .ok (.iload_n 2, 1) := by decide +kernel
theorem dX0_isHeld_11 : decode cX0_isHeld 11 = .ok (.iload_n 3, 1) := by decide +kernel
theorem dX0_isHeld_12 : decode cX0_isHeld 12 = .ok (.iload_n 1, 1) := by decide +kernel
theorem dX0_isHeld_13 : decode cX0_isHeld 13 = .ok (.if_icmp .eq 19, 3) := by decide +kernel
theorem dX0_isHeld_16 : decode cX0_isHeld 16 = .ok (.aload_n 0, 1) := by decide +kernel
theorem dX0_isHeld_17 : decode cX0_isHeld 17 = .ok (.getfield 35, 3) := by decide +kernel
theorem dX0_isHeld_20 : decode cX0_isHeld 20 = .ok (.iload_n 3, 1) := by decide +kernel
theorem dX0_isHeld_21 : decode cX0_isHeld 21 = .ok (.aaload, 1) := by decide +kernel
theorem dX0_isHeld_22 : decode cX0_isHeld 22 = .ok (.getfield 181, 3) := by decide +kernel
theorem dX0_isHeld_25 : decode cX0_isHeld 25 = .ok (.ifCond .eq 7, 3) := by decide +kernel
theorem dX0_isHeld_28 : decode cX0_isHeld 28 = .ok (.iconst 1, 1) := by decide +kernel
theorem dX0_isHeld_29 : decode cX0_isHeld 29 = .ok (.goto 4, 3) := by decide +kernel
theorem dX0_isHeld_32 : decode cX0_isHeld 32 = .ok (.iconst 0, 1) := by decide +kernel
theorem dX0_isHeld_33 : decode cX0_isHeld 33 = .ok (.ior, 1) := by decide +kernel
theorem dX0_isHeld_34 : decode cX0_isHeld 34 = .ok (.istore_n 2, 1) := by decide +kernel
theorem dX0_isHeld_35 : decode cX0_isHeld 35 = .ok (.iinc 3 1, 3) := by decide +kernel
theorem dX0_isHeld_38 : decode cX0_isHeld 38 = .ok (.goto (-34), 3) := by decide +kernel
theorem dX0_isHeld_41 : decode cX0_isHeld 41 = .ok (.iload_n 2, 1) := by decide +kernel
theorem dX0_isHeld_42 : decode cX0_isHeld 42 = .ok (.ifCond .eq 19, 3) := by decide +kernel
theorem dX0_isHeld_45 : decode cX0_isHeld 45 = .ok (.aload_n 0, 1) := by decide +kernel
theorem dX0_isHeld_46 : decode cX0_isHeld 46 = .ok (.getfield 35, 3) := by decide +kernel
theorem dX0_isHeld_49 : decode cX0_isHeld 49 = .ok (.iload_n 1, 1) := by decide +kernel
theorem dX0_isHeld_50 : decode cX0_isHeld 50 = .ok (.aaload, 1) := by decide +kernel
theorem dX0_isHeld_51 : decode cX0_isHeld 51 = .ok (.getfield 181, 3) := by decide +kernel
theorem dX0_isHeld_54 : decode cX0_isHeld 54 = .ok (.ifCond .ne 7, 3) := by decide +kernel
theorem dX0_isHeld_57 : decode cX0_isHeld 57 = .ok (.iconst 1, 1) := by decide +kernel
theorem dX0_isHeld_58 : decode cX0_isHeld 58 = .ok (.goto 4, 3) := by decide +kernel
theorem dX0_isHeld_61 : decode cX0_isHeld 61 = .ok (.iconst 0, 1) := by decide +kernel
theorem dX0_isHeld_62 : decode cX0_isHeld 62 = .ok (.ireturn, 1) := by decide +kernel
theorem dX0_isProgram_0 : decode cX0_isProgram 0 = .ok (.iload_n 1, 1) := by decide +kernel
theorem dX0_isProgram_1 : decode cX0_isProgram 1 = .ok (.ifCond .lt 15, 3) := by decide +kernel
theorem dX0_isProgram_4 : decode cX0_isProgram 4 = .ok (.iload_n 1, 1) := by decide +kernel
theorem dX0_isProgram_5 : decode cX0_isProgram 5 = .ok (.aload_n 0, 1) := by decide +kernel
theorem dX0_isProgram_6 : decode cX0_isProgram 6 = .ok (.getfield 69, 3) := by decide +kernel
theorem dX0_isProgram_9 : decode cX0_isProgram 9 = .ok (.if_icmp .ge 7, 3) := by decide +kernel
theorem dX0_isProgram_12 : decode cX0_isProgram 12 = .ok (.iconst 1, 1) := by decide +kernel
theorem dX0_isProgram_13 : decode cX0_isProgram 13 = .ok (.goto 4, 3) := by decide +kernel
theorem dX0_isProgram_16 : decode cX0_isProgram 16 = .ok (.iconst 0, 1) := by decide +kernel
theorem dX0_isProgram_17 : decode cX0_isProgram 17 = .ok (.ireturn, 1) := by decide +kernel
theorem dX0_isSame_0 : decode cX0_isSame 0 = .ok (.aload_n 0, 1) := by decide +kernel
theorem dX0_isSame_1 : decode cX0_isSame 1 = .ok (.getfield 42, 3) := by decide +kernel
theorem dX0_isSame_4 : decode cX0_isSame 4 = .ok (.getfield 255, 3) := by decide +kernel
theorem dX0_isSame_7 : decode cX0_isSame 7 = .ok (.iload_n 1, 1) := by decide +kernel
theorem dX0_isSame_8 : decode cX0_isSame 8 = .ok (.aaload, 1) := by decide +kernel
theorem dX0_isSame_9 : decode cX0_isSame 9 = .ok (.getstatic 110, 3) := by decide +kernel
theorem dX0_isSame_12 : decode cX0_isSame 12 = .ok (.if_acmp .ne 40, 3) := by decide +kernel
theorem dX0_isSame_15 : decode cX0_isSame 15 = .ok (.aload_n 0, 1) := by decide +kernel
theorem dX0_isSame_16 : decode cX0_isSame 16 = .ok (.getfield 46, 3) := by decide +kernel
theorem dX0_isSame_19 : decode cX0_isSame 19 = .ok (.aload_n 0, 1) := by decide +kernel
theorem dX0_isSame_20 : decode cX0_isSame 20 = .ok (.getfield 42, 3) := by decide +kernel
theorem dX0_isSame_23 : decode cX0_isSame 23 = .ok (.getfield 262, 3) := by decide +kernel
theorem dX0_isSame_26 : decode cX0_isSame 26 = .ok (.iload_n 1, 1) := by decide +kernel
theorem dX0_isSame_27 : decode cX0_isSame 27 = .ok (.iaload, 1) := by decide +kernel
theorem dX0_isSame_28 : decode cX0_isSame 28 = .ok (.aload_n 0, 1) := by decide +kernel
theorem dX0_isSame_29 : decode cX0_isSame 29 = .ok (.getfield 42, 3) := by decide +kernel
theorem dX0_isSame_32 : decode cX0_isSame 32 = .ok (.getfield 269, 3) := by decide +kernel
theorem dX0_isSame_35 : decode cX0_isSame 35 = .ok (.iload_n 1, 1) := by decide +kernel
theorem dX0_isSame_36 : decode cX0_isSame 36 = .ok (.laload, 1) := by decide +kernel
theorem dX0_isSame_37 : decode cX0_isSame 37 = .ok (.invokevirtual 270, 3) := by decide +kernel
theorem dX0_isSame_40 : decode cX0_isSame 40 = .ok (.aload_n 0, 1) := by decide +kernel
theorem dX0_isSame_41 : decode cX0_isSame 41 = .ok (.getfield 46, 3) := by decide +kernel
theorem dX0_isSame_44 : decode cX0_isSame 44 = .ok (.aload_n 0, 1) := by decide +kernel
theorem dX0_isSame_45 : decode cX0_isSame 45 = .ok (.getfield 46, 3) := by decide +kernel
theorem dX0_isSame_48 : decode cX0_isSame 48 = .ok (.invokevirtual 102, 3) := by decide +kernel
theorem dX0_isSame_51 : decode cX0_isSame 51 = .ok (.ireturn, 1) := by decide +kernel
theorem dX0_isSame_52 : decode cX0_isSame 52 = .ok (.aload_n 0, 1) := by decide +kernel
theorem dX0_isSame_53 : decode cX0_isSame 53 = .ok (.getfield 52, 3) := by decide +kernel
theorem dX0_isSame_56 : decode cX0_isSame 56 = .ok (.aload_n 0, 1) := by decide +kernel
theorem dX0_isSame_57 : decode cX0_isSame 57 = .ok (.getfield 46, 3) := by decide +kernel
theorem dX0_isSame_60 : decode cX0_isSame 60 = .ok (.aload_n 0, 1) := by decide +kernel
theorem dX0_isSame_61 : decode cX0_isSame 61 = .ok (.getfield 22, 3) := by decide +kernel
theorem dX0_isSame_64 : decode cX0_isSame 64 = .ok (.aload_n 0, 1) := by decide +kernel
theorem dX0_isSame_65 : decode cX0_isSame 65 = .ok (.getfield 42, 3) := by decide +kernel
theorem dX0_isSame_68 : decode cX0_isSame 68 = .ok (.getfield 262, 3) := by decide +kernel
theorem dX0_isSame_71 : decode cX0_isSame 71 = .ok (.iload_n 1, 1) := by decide +kernel
theorem dX0_isSame_72 : decode cX0_isSame 72 = .ok (.iaload, 1) := by decide +kernel
theorem dX0_isSame_73 : decode cX0_isSame 73 = .ok (.aaload, 1) := by decide +kernel
theorem dX0_isSame_74 : decode cX0_isSame 74 = .ok (.invokevirtual 160, 3) := by decide +kernel
theorem dX0_isSame_77 : decode cX0_isSame 77 = .ok (.getstatic 274, 3) := by decide +kernel
theorem dX0_isSame_80 : decode cX0_isSame 80 = .ok (.astore_n 2, 1) := by decide +kernel
theorem dX0_isSame_81 : decode cX0_isSame 81 = .ok (.aload_n 2, 1) := by decide +kernel
theorem dX0_isSame_82 : decode cX0_isSame 82 = .ok (.getstatic 274, 3) := by decide +kernel
theorem dX0_isSame_85 : decode cX0_isSame 85 = .ok (.if_acmp .ne 14, 3) := by decide +kernel
theorem dX0_isSame_88 : decode cX0_isSame 88 = .ok (.aload_n 0, 1) := by decide +kernel
theorem dX0_isSame_89 : decode cX0_isSame 89 = .ok (.getfield 52, 3) := by decide +kernel
theorem dX0_isSame_92 : decode cX0_isSame 92 = .ok (.invokevirtual 164, 3) := by decide +kernel
theorem dX0_isSame_95 : decode cX0_isSame 95 = .ok (.astore_n 2, 1) := by decide +kernel
theorem dX0_isSame_96 : decode cX0_isSame 96 = .ok (.goto (-15), 3) := by decide +kernel
theorem dX0_isSame_99 : decode cX0_isSame 99 = .ok (.aload_n 2, 1) := by decide +kernel
theorem dX0_isSame_100 : decode cX0_isSame 100 = .ok (.getstatic 194, 3) := by decide +kernel
theorem dX0_isSame_103 : decode cX0_isSame 103 = .ok (.if_acmp .ne 17, 3) := by decide +kernel
theorem dX0_isSame_106 : decode cX0_isSame 106 = .ok (.aload_n 0, 1) := by decide +kernel
theorem dX0_isSame_107 : decode cX0_isSame 107 = .ok (.getfield 52, 3) := by decide +kernel
theorem dX0_isSame_110 : decode cX0_isSame 110 = .ok (.invokevirtual 197, 3) := by decide +kernel
theorem dX0_isSame_113 : decode cX0_isSame 113 = .ok (.ifCond .eq 7, 3) := by decide +kernel
theorem dX0_isSame_116 : decode cX0_isSame 116 = .ok (.iconst 1, 1) := by decide +kernel
theorem dX0_isSame_117 : decode cX0_isSame 117 = .ok (.goto 4, 3) := by decide +kernel
theorem dX0_isSame_120 : decode cX0_isSame 120 = .ok (.iconst 0, 1) := by decide +kernel
theorem dX0_isSame_121 : decode cX0_isSame 121 = .ok (.istore_n 3, 1) := by decide +kernel
theorem dX0_isSame_122 : decode cX0_isSame 122 = .ok (.iload_n 3, 1) := by decide +kernel
theorem dX0_isSame_123 : decode cX0_isSame 123 = .ok (.ifCond .eq 7, 3) := by decide +kernel
theorem dX0_isSame_126 : decode cX0_isSame 126 = .ok (.lconst 0, 1) := by decide +kernel
theorem dX0_isSame_127 : decode cX0_isSame 127 = .ok (.goto 23, 3) := by decide +kernel
theorem dX0_isSame_130 : decode cX0_isSame 130 = .ok (.aload_n 2, 1) := by decide +kernel
theorem dX0_isSame_131 : decode cX0_isSame 131 = .ok (.getstatic 194, 3) := by decide +kernel
theorem dX0_isSame_134 : decode cX0_isSame 134 = .ok (.if_acmp .ne 9, 3) := by decide +kernel
theorem dX0_isSame_137 : decode cX0_isSame 137 = .ok (.ldc2_w 199, 3) := by decide +kernel
theorem dX0_isSame_140 : decode cX0_isSame 140 = .ok (.goto 10, 3) := by decide +kernel
theorem dX0_isSame_143 : decode cX0_isSame 143 = .ok (.aload_n 0, 1) := by decide +kernel
theorem dX0_isSame_144 : decode cX0_isSame 144 = .ok (.getfield 52, 3) := by decide +kernel
theorem dX0_isSame_147 : decode cX0_isSame 147 = .ok (.getfield 201, 3) := by decide +kernel
theorem dX0_isSame_150 : decode cX0_isSame 150 = .ok (.lstore 4, 2) := by decide +kernel
theorem dX0_isSame_152 : decode cX0_isSame 152 = .ok (.iload_n 3, 1) := by decide +kernel
theorem dX0_isSame_153 : decode cX0_isSame 153 = .ok (.ifCond .eq 10, 3) := by decide +kernel
theorem dX0_isSame_156 : decode cX0_isSame 156 = .ok (.aload_n 0, 1) := by decide +kernel
theorem dX0_isSame_157 : decode cX0_isSame 157 = .ok (.getfield 52, 3) := by decide +kernel
theorem dX0_isSame_160 : decode cX0_isSame 160 = .ok (.invokevirtual 205, 3) := by decide +kernel
theorem dX0_isSame_163 : decode cX0_isSame 163 = .ok (.aload_n 2, 1) := by decide +kernel
theorem dX0_isSame_164 : decode cX0_isSame 164 = .ok (.getstatic 155, 3) := by decide +kernel
theorem dX0_isSame_167 : decode cX0_isSame 167 = .ok (.if_acmp .eq 67, 3) := by decide +kernel
theorem dX0_isSame_170 : decode cX0_isSame 170 = .ok (.iload_n 3, 1) := by decide +kernel
theorem dX0_isSame_171 : decode cX0_isSame 171 = .ok (.aload_n 0, 1) := by decide +kernel
theorem dX0_isSame_172 : decode cX0_isSame 172 = .ok (.getfield 42, 3) := by decide +kernel
theorem dX0_isSame_175 : decode cX0_isSame 175 = .ok (.getfield 255, 3) := by decide +kernel
theorem dX0_isSame_178 : decode cX0_isSame 178 = .ok (.iload_n 1, 1) := by decide +kernel
theorem dX0_isSame_179 : decode cX0_isSame 179 = .ok (.aaload, 1) := by decide +kernel
theorem dX0_isSame_180 : decode cX0_isSame 180 = .ok (.getstatic 208, 3) := by decide +kernel
theorem dX0_isSame_183 : decode cX0_isSame 183 = .ok (.if_acmp .ne 7, 3) := by decide +kernel
theorem dX0_isSame_186 : decode cX0_isSame 186 = .ok (.iconst 1, 1) := by decide +kernel
theorem dX0_isSame_187 : decode cX0_isSame 187 = .ok (.goto 4, 3) := by decide +kernel
theorem dX0_isSame_190 : decode cX0_isSame 190 = .ok (.iconst 0, 1) := by decide +kernel
theorem dX0_isSame_191 : decode cX0_isSame 191 = .ok (.if_icmp .ne 43, 3) := by decide +kernel
theorem dX0_isSame_194 : decode cX0_isSame 194 = .ok (.lload 4, 2) := by decide +kernel
theorem dX0_isSame_196 : decode cX0_isSame 196 = .ok (.aload_n 0, 1) := by decide +kernel
theorem dX0_isSame_197 : decode cX0_isSame 197 = .ok (.getfield 42, 3) := by decide +kernel
theorem dX0_isSame_200 : decode cX0_isSame 200 = .ok (.getfield 269, 3) := by decide +kernel
theorem dX0_isSame_203 : decode cX0_isSame 203 = .ok (.iload_n 1, 1) := by decide +kernel
theorem dX0_isSame_204 : decode cX0_isSame 204 = .ok (.laload, 1) := by decide +kernel
theorem dX0_isSame_205 : decode cX0_isSame 205 = .ok (.lcmp, 1) := by decide +kernel
theorem dX0_isSame_206 : decode cX0_isSame 206 = .ok (.ifCond .ne 28, 3) := by decide +kernel
theorem dX0_isSame_209 : decode cX0_isSame 209 = .ok (.aload_n 0, 1) := by decide +kernel
theorem dX0_isSame_210 : decode cX0_isSame 210 = .ok (.getfield 52, 3) := by decide +kernel
theorem dX0_isSame_213 : decode cX0_isSame 213 = .ok (.getfield 213, 3) := by decide +kernel
theorem dX0_isSame_216 : decode cX0_isSame 216 = .ok (.iconst 1, 1) := by decide +kernel
theorem dX0_isSame_217 : decode cX0_isSame 217 = .ok (.iadd, 1) := by decide +kernel
theorem dX0_isSame_218 : decode cX0_isSame 218 = .ok (.aload_n 0, 1) := by decide +kernel
theorem dX0_isSame_219 : decode cX0_isSame 219 = .ok (.getfield 42, 3) := by decide +kernel
theorem dX0_isSame_222 : decode cX0_isSame 222 = .ok (.getfield 265, 3) := by decide +kernel
theorem dX0_isSame_225 : decode cX0_isSame 225 = .ok (.iload_n 1, 1) := by decide +kernel
theorem dX0_isSame_226 : decode cX0_isSame 226 = .ok (.iaload, 1) := by decide +kernel
theorem dX0_isSame_227 : decode cX0_isSame 227 = .ok (.if_icmp .ne 7, 3) := by decide +kernel
theorem dX0_isSame_230 : decode cX0_isSame 230 = .ok (.iconst 1, 1) := by decide +kernel
theorem dX0_isSame_231 : decode cX0_isSame 231 = .ok (.goto 4, 3) := by decide +kernel
theorem dX0_isSame_234 : decode cX0_isSame 234 = .ok (.iconst 0, 1) := by decide +kernel
theorem dX0_isSame_235 : decode cX0_isSame 235 = .ok (.ireturn, 1) := by decide +kernel
theorem dX0_judged_0 : decode cX0_judged 0 = .ok (.aload_n 0, 1) := by decide +kernel
theorem dX0_judged_1 : decode cX0_judged 1 = .ok (.getfield 35, 3) := by decide +kernel
theorem dX0_judged_4 : decode cX0_judged 4 = .ok (.iload_n 1, 1) := by decide +kernel
theorem dX0_judged_5 : decode cX0_judged 5 = .ok (.aaload, 1) := by decide +kernel
theorem dX0_judged_6 : decode cX0_judged 6 = .ok (.astore_n 3, 1) := by decide +kernel
theorem dX0_judged_7 : decode cX0_judged 7 = .ok (.aload_n 2, 1) := by decide +kernel
theorem dX0_judged_8 : decode cX0_judged 8 = .ok (.invokevirtual 144, 3) := by decide +kernel
theorem dX0_judged_11 : decode cX0_judged 11 = .ok (.tableswitch 56 0 4 #[51, 56, 56, 33, 42], 33) := by decide +kernel
theorem dX0_judged_44 : decode cX0_judged 44 = .ok (.aload_n 3, 1) := by decide +kernel
theorem dX0_judged_45 : decode cX0_judged 45 = .ok (.invokevirtual 172, 3) := by decide +kernel
theorem dX0_judged_48 : decode cX0_judged 48 = .ok (.aload_n 2, 1) := by decide +kernel
theorem dX0_judged_49 : decode cX0_judged 49 = .ok (.invokevirtual 144, 3) := by decide +kernel
theorem dX0_judged_52 : decode cX0_judged 52 = .ok (.ireturn, 1) := by decide +kernel
theorem dX0_judged_53 : decode cX0_judged 53 = .ok (.aload_n 3, 1) := by decide +kernel
theorem dX0_judged_54 : decode cX0_judged 54 = .ok (.invokevirtual 175, 3) := by decide +kernel
theorem dX0_judged_57 : decode cX0_judged 57 = .ok (.aload_n 2, 1) := by decide +kernel
theorem dX0_judged_58 : decode cX0_judged 58 = .ok (.invokevirtual 144, 3) := by decide +kernel
theorem dX0_judged_61 : decode cX0_judged 61 = .ok (.ireturn, 1) := by decide +kernel
theorem dX0_judged_62 : decode cX0_judged 62 = .ok (.aload_n 2, 1) := by decide +kernel
theorem dX0_judged_63 : decode cX0_judged 63 = .ok (.invokevirtual 144, 3) := by decide +kernel
theorem dX0_judged_66 : decode cX0_judged 66 = .ok (.ireturn, 1) := by decide +kernel
theorem dX0_judged_67 : decode cX0_judged 67 = .ok (.aload_n 0, 1) := by decide +kernel
theorem dX0_judged_68 : decode cX0_judged 68 = .ok (.iload_n 1, 1) := by decide +kernel
theorem dX0_judged_69 : decode cX0_judged 69 = .ok (.aload_n 2, 1) := by decide +kernel
theorem dX0_judged_70 : decode cX0_judged 70 = .ok (.invokevirtual 178, 3) := by decide +kernel
theorem dX0_judged_73 : decode cX0_judged 73 = .ok (.ireturn, 1) := by decide +kernel
theorem dX0_place_0 : decode cX0_place 0 = .ok (.aload_n 0, 1) := by decide +kernel
theorem dX0_place_1 : decode cX0_place 1 = .ok (.getfield 16, 3) := by decide +kernel
theorem dX0_place_4 : decode cX0_place 4 = .ok (.getfield 76, 3) := by decide +kernel
theorem dX0_place_7 : decode cX0_place 7 = .ok (.ireturn, 1) := by decide +kernel
theorem dX0_play_0 : decode cX0_play 0 = .ok (.iload_n 3, 1) := by decide +kernel
theorem dX0_play_1 : decode cX0_play 1 = .ok (.ifCond .lt 10, 3) := by decide +kernel
theorem dX0_play_4 : decode cX0_play 4 = .ok (.iload_n 3, 1) := by decide +kernel
theorem dX0_play_5 : decode cX0_play 5 = .ok (.sipush 2000, 3) := by decide +kernel
theorem dX0_play_8 : decode cX0_play 8 = .ok (.if_icmp .le 5, 3) := by decide +kernel
theorem dX0_play_11 : decode cX0_play 11 = .ok (.iconst (-1), 1) := by decide +kernel
theorem dX0_play_12 : decode cX0_play 12 = .ok (.ireturn, 1) := by decide +kernel
theorem dX0_play_13 : decode cX0_play 13 = .ok (.lload_n 1, 1) := by decide +kernel
theorem dX0_play_14 : decode cX0_play 14 = .ok (.lstore 4, 2) := by decide +kernel
theorem dX0_play_16 : decode cX0_play 16 = .ok (.iconst 0, 1) := by decide +kernel
theorem dX0_play_17 : decode cX0_play 17 = .ok (.istore 6, 2) := by decide +kernel
theorem dX0_play_19 : decode cX0_play 19 = .ok (.iconst 0, 1) := by decide +kernel
theorem dX0_play_20 : decode cX0_play 20 = .ok (.istore 7, 2) := by decide +kernel
theorem dX0_play_22 : decode cX0_play 22 = .ok (.iload 7, 2) := by decide +kernel
theorem dX0_play_24 : decode cX0_play 24 = .ok (.iload_n 3, 1) := by decide +kernel
theorem dX0_play_25 : decode cX0_play 25 = .ok (.if_icmp .ge 50, 3) := by decide +kernel
theorem dX0_play_28 : decode cX0_play 28 = .ok (.ldc2_w 224, 3) := by decide +kernel
theorem dX0_play_31 : decode cX0_play 31 = .ok (.lload 4, 2) := by decide +kernel
theorem dX0_play_33 : decode cX0_play 33 = .ok (.lmul, 1) := by decide +kernel
theorem dX0_play_34 : decode cX0_play 34 = .ok (.ldc2_w 226, 3) := by decide +kernel
theorem dX0_play_37 : decode cX0_play 37 = .ok (.ladd, 1) := by decide +kernel
theorem dX0_play_38 : decode cX0_play 38 = .ok (.lstore 4, 2) := by decide +kernel
theorem dX0_play_40 : decode cX0_play 40 = .ok (.iload 6, 2) := by decide +kernel
theorem dX0_play_42 : decode cX0_play 42 = .ok (.aload_n 0, 1) := by decide +kernel
theorem dX0_play_43 : decode cX0_play 43 = .ok (.lload 4, 2) := by decide +kernel
theorem dX0_play_45 : decode cX0_play 45 = .ok (.bipush 61, 2) := by decide +kernel
theorem dX0_play_47 : decode cX0_play 47 = .ok (.lushr, 1) := by decide +kernel
theorem dX0_play_48 : decode cX0_play 48 = .ok (.l2i, 1) := by decide +kernel
theorem dX0_play_49 : decode cX0_play 49 = .ok (.invokevirtual 228, 3) := by decide +kernel
theorem dX0_play_52 : decode cX0_play 52 = .ok (.getstatic 194, 3) := by decide +kernel
theorem dX0_play_55 : decode cX0_play 55 = .ok (.invokevirtual 144, 3) := by decide +kernel
theorem dX0_play_58 : decode cX0_play 58 = .ok (.if_icmp .ne 7, 3) := by decide +kernel
theorem dX0_play_61 : decode cX0_play 61 = .ok (.iconst 1, 1) := by decide +kernel
theorem dX0_play_62 : decode cX0_play 62 = .ok (.goto 4, 3) := by decide +kernel
theorem dX0_play_65 : decode cX0_play 65 = .ok (.iconst 0, 1) := by decide +kernel
theorem dX0_play_66 : decode cX0_play 66 = .ok (.iadd, 1) := by decide +kernel
theorem dX0_play_67 : decode cX0_play 67 = .ok (.istore 6, 2) := by decide +kernel
theorem dX0_play_69 : decode cX0_play 69 = .ok (.iinc 7 1, 3) := by decide +kernel
theorem dX0_play_72 : decode cX0_play 72 = .ok (.goto (-50), 3) := by decide +kernel
theorem dX0_play_75 : decode cX0_play 75 = .ok (.iload 6, 2) := by decide +kernel
theorem dX0_play_77 : decode cX0_play 77 = .ok (.ireturn, 1) := by decide +kernel
theorem dX0_put_0 : decode cX0_put 0 = .ok (.iload_n 1, 1) := by decide +kernel
theorem dX0_put_1 : decode cX0_put 1 = .ok (.invokestatic 92, 3) := by decide +kernel
theorem dX0_put_4 : decode cX0_put 4 = .ok (.ifCond .eq 16, 3) := by decide +kernel
theorem dX0_put_7 : decode cX0_put 7 = .ok (.aload_n 0, 1) := by decide +kernel
theorem dX0_put_8 : decode cX0_put 8 = .ok (.getfield 42, 3) := by decide +kernel
theorem dX0_put_11 : decode cX0_put 11 = .ok (.getfield 95, 3) := by decide +kernel
theorem dX0_put_14 : decode cX0_put 14 = .ok (.sipush 300, 3) := by decide +kernel
theorem dX0_put_17 : decode cX0_put 17 = .ok (.if_icmp .ne 5, 3) := by decide +kernel
theorem dX0_put_20 : decode cX0_put 20 = .ok (.iconst (-1), 1) := by decide +kernel
theorem dX0_put_21 : decode cX0_put 21 = .ok (.ireturn, 1) := by decide +kernel
theorem dX0_put_22 : decode cX0_put 22 = .ok (.aload_n 0, 1) := by decide +kernel
theorem dX0_put_23 : decode cX0_put 23 = .ok (.getfield 29, 3) := by decide +kernel
theorem dX0_put_26 : decode cX0_put 26 = .ok (.getfield 98, 3) := by decide +kernel
theorem dX0_put_29 : decode cX0_put 29 = .ok (.iload_n 1, 1) := by decide +kernel
theorem dX0_put_30 : decode cX0_put 30 = .ok (.laload, 1) := by decide +kernel
theorem dX0_put_31 : decode cX0_put 31 = .ok (.lstore 4, 2) := by decide +kernel
theorem dX0_put_33 : decode cX0_put 33 = .ok (.aload_n 0, 1) := by decide +kernel
theorem dX0_put_34 : decode cX0_put 34 = .ok (.getfield 29, 3) := by decide +kernel
theorem dX0_put_37 : decode cX0_put 37 = .ok (.getfield 98, 3) := by decide +kernel
theorem dX0_put_40 : decode cX0_put 40 = .ok (.iload_n 1, 1) := by decide +kernel
theorem dX0_put_41 : decode cX0_put 41 = .ok (.lload_n 2, 1) := by decide +kernel
theorem dX0_put_42 : decode cX0_put 42 = .ok (.lastore, 1) := by decide +kernel
theorem dX0_put_43 : decode cX0_put 43 = .ok (.aload_n 0, 1) := by decide +kernel
theorem dX0_put_44 : decode cX0_put 44 = .ok (.getfield 29, 3) := by decide +kernel
theorem dX0_put_47 : decode cX0_put 47 = .ok (.aload_n 0, 1) := by decide +kernel
theorem dX0_put_48 : decode cX0_put 48 = .ok (.getfield 29, 3) := by decide +kernel
theorem dX0_put_51 : decode cX0_put 51 = .ok (.invokevirtual 102, 3) := by decide +kernel
theorem dX0_put_54 : decode cX0_put 54 = .ok (.ifCond .ne 17, 3) := by decide +kernel
theorem dX0_put_57 : decode cX0_put 57 = .ok (.aload_n 0, 1) := by decide +kernel
theorem dX0_put_58 : decode cX0_put 58 = .ok (.getfield 29, 3) := by decide +kernel
theorem dX0_put_61 : decode cX0_put 61 = .ok (.getfield 98, 3) := by decide +kernel
theorem dX0_put_64 : decode cX0_put 64 = .ok (.iload_n 1, 1) := by decide +kernel
theorem dX0_put_65 : decode cX0_put 65 = .ok (.lload 4, 2) := by decide +kernel
theorem dX0_put_67 : decode cX0_put 67 = .ok (.lastore, 1) := by decide +kernel
theorem dX0_put_68 : decode cX0_put 68 = .ok (.bipush (-2), 2) := by decide +kernel
theorem dX0_put_70 : decode cX0_put 70 = .ok (.ireturn, 1) := by decide +kernel
theorem dX0_put_71 : decode cX0_put 71 = .ok (.aload_n 0, 1) := by decide +kernel
theorem dX0_put_72 : decode cX0_put 72 = .ok (.getfield 29, 3) := by decide +kernel
theorem dX0_put_75 : decode cX0_put 75 = .ok (.getfield 106, 3) := by decide +kernel
theorem dX0_put_78 : decode cX0_put 78 = .ok (.iload_n 1, 1) := by decide +kernel
theorem dX0_put_79 : decode cX0_put 79 = .ok (.dup2, 1) := by decide +kernel
theorem dX0_put_80 : decode cX0_put 80 = .ok (.iaload, 1) := by decide +kernel
theorem dX0_put_81 : decode cX0_put 81 = .ok (.iconst 1, 1) := by decide +kernel
theorem dX0_put_82 : decode cX0_put 82 = .ok (.iadd, 1) := by decide +kernel
theorem dX0_put_83 : decode cX0_put 83 = .ok (.iastore, 1) := by decide +kernel
theorem dX0_put_84 : decode cX0_put 84 = .ok (.aload_n 0, 1) := by decide +kernel
theorem dX0_put_85 : decode cX0_put 85 = .ok (.getfield 42, 3) := by decide +kernel
theorem dX0_put_88 : decode cX0_put 88 = .ok (.getstatic 110, 3) := by decide +kernel
theorem dX0_put_91 : decode cX0_put 91 = .ok (.iconst (-1), 1) := by decide +kernel
theorem dX0_put_92 : decode cX0_put 92 = .ok (.iload_n 1, 1) := by decide +kernel
theorem dX0_put_93 : decode cX0_put 93 = .ok (.iconst 0, 1) := by decide +kernel
theorem dX0_put_94 : decode cX0_put 94 = .ok (.iconst 0, 1) := by decide +kernel
theorem dX0_put_95 : decode cX0_put 95 = .ok (.lload_n 2, 1) := by decide +kernel
theorem dX0_put_96 : decode cX0_put 96 = .ok (.invokevirtual 116, 3) := by decide +kernel
theorem dX0_put_99 : decode cX0_put 99 = .ok (.aload_n 0, 1) := by decide +kernel
theorem dX0_put_100 : decode cX0_put 100 = .ok (.getfield 29, 3) := by decide +kernel
theorem dX0_put_103 : decode cX0_put 103 = .ok (.getfield 106, 3) := by decide +kernel
theorem dX0_put_106 : decode cX0_put 106 = .ok (.iload_n 1, 1) := by decide +kernel
theorem dX0_put_107 : decode cX0_put 107 = .ok (.iaload, 1) := by decide +kernel
theorem dX0_put_108 : decode cX0_put 108 = .ok (.ireturn, 1) := by decide +kernel
theorem dX0_replays_0 : decode cX0_replays 0 = .ok (.aload_n 0, 1) := by decide +kernel
theorem dX0_replays_1 : decode cX0_replays 1 = .ok (.getfield 46, 3) := by decide +kernel
theorem dX0_replays_4 : decode cX0_replays 4 = .ok (.invokevirtual 277, 3) := by decide +kernel
theorem dX0_replays_7 : decode cX0_replays 7 = .ok (.iconst 1, 1) := by decide +kernel
theorem dX0_replays_8 : decode cX0_replays 8 = .ok (.istore_n 1, 1) := by decide +kernel
theorem dX0_replays_9 : decode cX0_replays 9 = .ok (.iconst 0, 1) := by decide +kernel
theorem dX0_replays_10 : decode cX0_replays 10 = .ok (.istore_n 2, 1) := by decide +kernel
theorem dX0_replays_11 : decode cX0_replays 11 = .ok (.iload_n 2, 1) := by decide +kernel
theorem dX0_replays_12 : decode cX0_replays 12 = .ok (.aload_n 0, 1) := by decide +kernel
theorem dX0_replays_13 : decode cX0_replays 13 = .ok (.getfield 42, 3) := by decide +kernel
theorem dX0_replays_16 : decode cX0_replays 16 = .ok (.getfield 95, 3) := by decide +kernel
theorem dX0_replays_19 : decode cX0_replays 19 = .ok (.if_icmp .ge 19, 3) := by decide +kernel
theorem dX0_replays_22 : decode cX0_replays 22 = .ok (.iload_n 1, 1) := by decide +kernel
theorem dX0_replays_23 : decode cX0_replays 23 = .ok (.ifCond .eq 15, 3) := by decide +kernel
theorem dX0_replays_26 : decode cX0_replays 26 = .ok (.aload_n 0, 1) := by decide +kernel
theorem dX0_replays_27 : decode cX0_replays 27 = .ok (.iload_n 2, 1) := by decide +kernel
theorem dX0_replays_28 : decode cX0_replays 28 = .ok (.invokevirtual 280, 3) := by decide +kernel
theorem dX0_replays_31 : decode cX0_replays 31 = .ok (.istore_n 1, 1) := by decide +kernel
theorem dX0_replays_32 : decode cX0_replays 32 = .ok (.iinc 2 1, 3) := by decide +kernel
theorem dX0_replays_35 : decode cX0_replays 35 = .ok (.goto (-24), 3) := by decide +kernel
theorem dX0_replays_38 : decode cX0_replays 38 = .ok (.iload_n 1, 1) := by decide +kernel
theorem dX0_replays_39 : decode cX0_replays 39 = .ok (.ifCond .eq 21, 3) := by decide +kernel
theorem dX0_replays_42 : decode cX0_replays 42 = .ok (.aload_n 0, 1) := by decide +kernel
theorem dX0_replays_43 : decode cX0_replays 43 = .ok (.getfield 46, 3) := by decide +kernel
theorem dX0_replays_46 : decode cX0_replays 46 = .ok (.aload_n 0, 1) := by decide +kernel
theorem dX0_replays_47 : decode cX0_replays 47 = .ok (.getfield 29, 3) := by decide +kernel
theorem dX0_replays_50 : decode cX0_replays 50 = .ok (.invokevirtual 283, 3) := by decide +kernel
theorem dX0_replays_53 : decode cX0_replays 53 = .ok (.ifCond .eq 7, 3) := by decide +kernel
theorem dX0_replays_56 : decode cX0_replays 56 = .ok (.iconst 1, 1) := by decide +kernel
theorem dX0_replays_57 : decode cX0_replays 57 = .ok (.goto 4, 3) := by decide +kernel
theorem dX0_replays_60 : decode cX0_replays 60 = .ok (.iconst 0, 1) := by decide +kernel
theorem dX0_replays_61 : decode cX0_replays 61 = .ok (.ireturn, 1) := by decide +kernel
theorem dX0_row_0 : decode cX0_row 0 = .ok (.iload_n 1, 1) := by decide +kernel
theorem dX0_row_1 : decode cX0_row 1 = .ok (.ifCond .lt 14, 3) := by decide +kernel
theorem dX0_row_4 : decode cX0_row 4 = .ok (.iload_n 1, 1) := by decide +kernel
theorem dX0_row_5 : decode cX0_row 5 = .ok (.aload_n 0, 1) := by decide +kernel
theorem dX0_row_6 : decode cX0_row 6 = .ok (.getfield 42, 3) := by decide +kernel
theorem dX0_row_9 : decode cX0_row 9 = .ok (.getfield 95, 3) := by decide +kernel
theorem dX0_row_12 : decode cX0_row 12 = .ok (.if_icmp .lt 5, 3) := by decide +kernel
theorem dX0_row_15 : decode cX0_row 15 = .ok (.iconst (-1), 1) := by decide +kernel
theorem dX0_row_16 : decode cX0_row 16 = .ok (.ireturn, 1) := by decide +kernel
theorem dX0_row_17 : decode cX0_row 17 = .ok (.iload_n 2, 1) := by decide +kernel
theorem dX0_row_18 : decode cX0_row 18 = .ok (.tableswitch 87 0 4 #[34, 47, 57, 67, 77], 34) := by decide +kernel
theorem dX0_row_52 : decode cX0_row 52 = .ok (.aload_n 0, 1) := by decide +kernel
theorem dX0_row_53 : decode cX0_row 53 = .ok (.getfield 42, 3) := by decide +kernel
theorem dX0_row_56 : decode cX0_row 56 = .ok (.getfield 255, 3) := by decide +kernel
theorem dX0_row_59 : decode cX0_row 59 = .ok (.iload_n 1, 1) := by decide +kernel
theorem dX0_row_60 : decode cX0_row 60 = .ok (.aaload, 1) := by decide +kernel
theorem dX0_row_61 : decode cX0_row 61 = .ok (.invokevirtual 259, 3) := by decide +kernel
theorem dX0_row_64 : decode cX0_row 64 = .ok (.ireturn, 1) := by decide +kernel
theorem dX0_row_65 : decode cX0_row 65 = .ok (.aload_n 0, 1) := by decide +kernel
theorem dX0_row_66 : decode cX0_row 66 = .ok (.getfield 42, 3) := by decide +kernel
theorem dX0_row_69 : decode cX0_row 69 = .ok (.getfield 260, 3) := by decide +kernel
theorem dX0_row_72 : decode cX0_row 72 = .ok (.iload_n 1, 1) := by decide +kernel
theorem dX0_row_73 : decode cX0_row 73 = .ok (.iaload, 1) := by decide +kernel
theorem dX0_row_74 : decode cX0_row 74 = .ok (.ireturn, 1) := by decide +kernel
theorem dX0_row_75 : decode cX0_row 75 = .ok (.aload_n 0, 1) := by decide +kernel
theorem dX0_row_76 : decode cX0_row 76 = .ok (.getfield 42, 3) := by decide +kernel
theorem dX0_row_79 : decode cX0_row 79 = .ok (.getfield 262, 3) := by decide +kernel
theorem dX0_row_82 : decode cX0_row 82 = .ok (.iload_n 1, 1) := by decide +kernel
theorem dX0_row_83 : decode cX0_row 83 = .ok (.iaload, 1) := by decide +kernel
theorem dX0_row_84 : decode cX0_row 84 = .ok (.ireturn, 1) := by decide +kernel
theorem dX0_row_85 : decode cX0_row 85 = .ok (.aload_n 0, 1) := by decide +kernel
theorem dX0_row_86 : decode cX0_row 86 = .ok (.getfield 42, 3) := by decide +kernel
theorem dX0_row_89 : decode cX0_row 89 = .ok (.getfield 265, 3) := by decide +kernel
theorem dX0_row_92 : decode cX0_row 92 = .ok (.iload_n 1, 1) := by decide +kernel
theorem dX0_row_93 : decode cX0_row 93 = .ok (.iaload, 1) := by decide +kernel
theorem dX0_row_94 : decode cX0_row 94 = .ok (.ireturn, 1) := by decide +kernel
theorem dX0_row_95 : decode cX0_row 95 = .ok (.aload_n 0, 1) := by decide +kernel
theorem dX0_row_96 : decode cX0_row 96 = .ok (.getfield 42, 3) := by decide +kernel
theorem dX0_row_99 : decode cX0_row 99 = .ok (.getfield 267, 3) := by decide +kernel
theorem dX0_row_102 : decode cX0_row 102 = .ok (.iload_n 1, 1) := by decide +kernel
theorem dX0_row_103 : decode cX0_row 103 = .ok (.iaload, 1) := by decide +kernel
theorem dX0_row_104 : decode cX0_row 104 = .ok (.ireturn, 1) := by decide +kernel
theorem dX0_row_105 : decode cX0_row 105 = .ok (.iconst (-1), 1) := by decide +kernel
theorem dX0_row_106 : decode cX0_row 106 = .ok (.ireturn, 1) := by decide +kernel
theorem dX0_rows_0 : decode cX0_rows 0 = .ok (.aload_n 0, 1) := by decide +kernel
theorem dX0_rows_1 : decode cX0_rows 1 = .ok (.getfield 42, 3) := by decide +kernel
theorem dX0_rows_4 : decode cX0_rows 4 = .ok (.getfield 95, 3) := by decide +kernel
theorem dX0_rows_7 : decode cX0_rows 7 = .ok (.ireturn, 1) := by decide +kernel
theorem dX0_rules_0 : decode cX0_rules 0 = .ok (.aload_n 0, 1) := by decide +kernel
theorem dX0_rules_1 : decode cX0_rules 1 = .ok (.getfield 29, 3) := by decide +kernel
theorem dX0_rules_4 : decode cX0_rules 4 = .ok (.getfield 252, 3) := by decide +kernel
theorem dX0_rules_7 : decode cX0_rules 7 = .ok (.ireturn, 1) := by decide +kernel
theorem dX0_sees_0 : decode cX0_sees 0 = .ok (.iload_n 1, 1) := by decide +kernel
theorem dX0_sees_1 : decode cX0_sees 1 = .ok (.invokestatic 120, 3) := by decide +kernel
theorem dX0_sees_4 : decode cX0_sees 4 = .ok (.ifCond .eq 13, 3) := by decide +kernel
theorem dX0_sees_7 : decode cX0_sees 7 = .ok (.iload_n 2, 1) := by decide +kernel
theorem dX0_sees_8 : decode cX0_sees 8 = .ok (.ifCond .lt 9, 3) := by decide +kernel
theorem dX0_sees_11 : decode cX0_sees 11 = .ok (.iload_n 2, 1) := by decide +kernel
theorem dX0_sees_12 : decode cX0_sees 12 = .ok (.bipush 26, 2) := by decide +kernel
theorem dX0_sees_14 : decode cX0_sees 14 = .ok (.if_icmp .lt 5, 3) := by decide +kernel
theorem dX0_sees_17 : decode cX0_sees 17 = .ok (.lconst 0, 1) := by decide +kernel
theorem dX0_sees_18 : decode cX0_sees 18 = .ok (.lreturn, 1) := by decide +kernel
theorem dX0_sees_19 : decode cX0_sees 19 = .ok (.aload_n 0, 1) := by decide +kernel
theorem dX0_sees_20 : decode cX0_sees 20 = .ok (.getfield 35, 3) := by decide +kernel
theorem dX0_sees_23 : decode cX0_sees 23 = .ok (.iload_n 1, 1) := by decide +kernel
theorem dX0_sees_24 : decode cX0_sees 24 = .ok (.aaload, 1) := by decide +kernel
theorem dX0_sees_25 : decode cX0_sees 25 = .ok (.getfield 127, 3) := by decide +kernel
theorem dX0_sees_28 : decode cX0_sees 28 = .ok (.getstatic 157, 3) := by decide +kernel
theorem dX0_sees_31 : decode cX0_sees 31 = .ok (.if_acmp .ne 17, 3) := by decide +kernel
theorem dX0_sees_34 : decode cX0_sees 34 = .ok (.aload_n 0, 1) := by decide +kernel
theorem dX0_sees_35 : decode cX0_sees 35 = .ok (.getfield 35, 3) := by decide +kernel
theorem dX0_sees_38 : decode cX0_sees 38 = .ok (.iload_n 1, 1) := by decide +kernel
theorem dX0_sees_39 : decode cX0_sees 39 = .ok (.aaload, 1) := by decide +kernel
theorem dX0_sees_40 : decode cX0_sees 40 = .ok (.getfield 57, 3) := by decide +kernel
theorem dX0_sees_43 : decode cX0_sees 43 = .ok (.iload_n 2, 1) := by decide +kernel
theorem dX0_sees_44 : decode cX0_sees 44 = .ok (.invokevirtual 248, 3) := by decide +kernel
theorem dX0_sees_47 : decode cX0_sees 47 = .ok (.lreturn, 1) := by decide +kernel
theorem dX0_sees_48 : decode cX0_sees 48 = .ok (.iload_n 2, 1) := by decide +kernel
theorem dX0_sees_49 : decode cX0_sees 49 = .ok (.bipush 16, 2) := by decide +kernel
theorem dX0_sees_51 : decode cX0_sees 51 = .ok (.if_icmp .ge 15, 3) := by decide +kernel
theorem dX0_sees_54 : decode cX0_sees 54 = .ok (.aload_n 0, 1) := by decide +kernel
theorem dX0_sees_55 : decode cX0_sees 55 = .ok (.getfield 29, 3) := by decide +kernel
theorem dX0_sees_58 : decode cX0_sees 58 = .ok (.getfield 98, 3) := by decide +kernel
theorem dX0_sees_61 : decode cX0_sees 61 = .ok (.iload_n 2, 1) := by decide +kernel
theorem dX0_sees_62 : decode cX0_sees 62 = .ok (.laload, 1) := by decide +kernel
theorem dX0_sees_63 : decode cX0_sees 63 = .ok (.goto 4, 3) := by decide +kernel
theorem dX0_sees_66 : decode cX0_sees 66 = .ok (.lconst 0, 1) := by decide +kernel
theorem dX0_sees_67 : decode cX0_sees 67 = .ok (.lreturn, 1) := by decide +kernel
theorem dX0_text_0 : decode cX0_text 0 = .ok (.aload_n 0, 1) := by decide +kernel
theorem dX0_text_1 : decode cX0_text 1 = .ok (.getfield 61, 3) := by decide +kernel
theorem dX0_text_4 : decode cX0_text 4 = .ok (.istore_n 1, 1) := by decide +kernel
theorem dX0_text_5 : decode cX0_text 5 = .ok (.aload_n 0, 1) := by decide +kernel
theorem dX0_text_6 : decode cX0_text 6 = .ok (.getfield 69, 3) := by decide +kernel
theorem dX0_text_9 : decode cX0_text 9 = .ok (.bipush 12, 2) := by decide +kernel
theorem dX0_text_11 : decode cX0_text 11 = .ok (.if_icmp .ne 5, 3) := by decide +kernel
theorem dX0_text_14 : decode cX0_text 14 = .ok (.iconst (-1), 1) := by decide +kernel
theorem dX0_text_15 : decode cX0_text 15 = .ok (.ireturn, 1) := by decide +kernel
theorem dX0_text_16 : decode cX0_text 16 = .ok (.aload_n 0, 1) := by decide +kernel
theorem dX0_text_17 : decode cX0_text 17 = .ok (.iconst 0, 1) := by decide +kernel
theorem dX0_text_18 : decode cX0_text 18 = .ok (.putfield 61, 3) := by decide +kernel
theorem dX0_text_21 : decode cX0_text 21 = .ok (.aload_n 0, 1) := by decide +kernel
theorem dX0_text_22 : decode cX0_text 22 = .ok (.getfield 16, 3) := by decide +kernel
theorem dX0_text_25 : decode cX0_text 25 = .ok (.aload_n 0, 1) := by decide +kernel
theorem dX0_text_26 : decode cX0_text 26 = .ok (.getfield 9, 3) := by decide +kernel
theorem dX0_text_29 : decode cX0_text 29 = .ok (.iload_n 1, 1) := by decide +kernel
theorem dX0_text_30 : decode cX0_text 30 = .ok (.invokevirtual 72, 3) := by decide +kernel
theorem dX0_text_33 : decode cX0_text 33 = .ok (.astore_n 2, 1) := by decide +kernel
theorem dX0_text_34 : decode cX0_text 34 = .ok (.aload_n 2, 1) := by decide +kernel
theorem dX0_text_35 : decode cX0_text 35 = .ok (.ifnonnull 6, 3) := by decide +kernel
theorem dX0_text_38 : decode cX0_text 38 = .ok (.bipush (-2), 2) := by decide +kernel
theorem dX0_text_40 : decode cX0_text 40 = .ok (.ireturn, 1) := by decide +kernel
theorem dX0_text_41 : decode cX0_text 41 = .ok (.aload_n 0, 1) := by decide +kernel
theorem dX0_text_42 : decode cX0_text 42 = .ok (.getfield 22, 3) := by decide +kernel
theorem dX0_text_45 : decode cX0_text 45 = .ok (.aload_n 0, 1) := by decide +kernel
theorem dX0_text_46 : decode cX0_text 46 = .ok (.getfield 69, 3) := by decide +kernel
theorem dX0_text_49 : decode cX0_text 49 = .ok (.aload_n 2, 1) := by decide +kernel
theorem dX0_text_50 : decode cX0_text 50 = .ok (.aastore, 1) := by decide +kernel
theorem dX0_text_51 : decode cX0_text 51 = .ok (.aload_n 0, 1) := by decide +kernel
theorem dX0_text_52 : decode cX0_text 52 = .ok (.dup, 1) := by decide +kernel
theorem dX0_text_53 : decode cX0_text 53 = .ok (.getfield 69, 3) := by decide +kernel
theorem dX0_text_56 : decode cX0_text 56 = .ok (.iconst 1, 1) := by decide +kernel
theorem dX0_text_57 : decode cX0_text 57 = .ok (.iadd, 1) := by decide +kernel
theorem dX0_text_58 : decode cX0_text 58 = .ok (.putfield 69, 3) := by decide +kernel
theorem dX0_text_61 : decode cX0_text 61 = .ok (.aload_n 0, 1) := by decide +kernel
theorem dX0_text_62 : decode cX0_text 62 = .ok (.getfield 69, 3) := by decide +kernel
theorem dX0_text_65 : decode cX0_text 65 = .ok (.iconst 1, 1) := by decide +kernel
theorem dX0_text_66 : decode cX0_text 66 = .ok (.isub, 1) := by decide +kernel
theorem dX0_text_67 : decode cX0_text 67 = .ok (.ireturn, 1) := by decide +kernel
theorem dX0_told_0 : decode cX0_told 0 = .ok (.aload_n 0, 1) := by decide +kernel
theorem dX0_told_1 : decode cX0_told 1 = .ok (.iload_n 1, 1) := by decide +kernel
theorem dX0_told_2 : decode cX0_told 2 = .ok (.invokevirtual 79, 3) := by decide +kernel
theorem dX0_told_5 : decode cX0_told 5 = .ok (.ifCond .eq 12, 3) := by decide +kernel
theorem dX0_told_8 : decode cX0_told 8 = .ok (.iload_n 2, 1) := by decide +kernel
theorem dX0_told_9 : decode cX0_told 9 = .ok (.ifCond .lt 8, 3) := by decide +kernel
theorem dX0_told_12 : decode cX0_told 12 = .ok (.iload_n 2, 1) := by decide +kernel
theorem dX0_told_13 : decode cX0_told 13 = .ok (.iconst 2, 1) := by decide +kernel
theorem dX0_told_14 : decode cX0_told 14 = .ok (.if_icmp .le 5, 3) := by decide +kernel
theorem dX0_told_17 : decode cX0_told 17 = .ok (.iconst (-1), 1) := by decide +kernel
theorem dX0_told_18 : decode cX0_told 18 = .ok (.ireturn, 1) := by decide +kernel
theorem dX0_told_19 : decode cX0_told 19 = .ok (.aload_n 0, 1) := by decide +kernel
theorem dX0_told_20 : decode cX0_told 20 = .ok (.getfield 22, 3) := by decide +kernel
theorem dX0_told_23 : decode cX0_told 23 = .ok (.iload_n 1, 1) := by decide +kernel
theorem dX0_told_24 : decode cX0_told 24 = .ok (.aaload, 1) := by decide +kernel
theorem dX0_told_25 : decode cX0_told 25 = .ok (.astore_n 3, 1) := by decide +kernel
theorem dX0_told_26 : decode cX0_told 26 = .ok (.iload_n 2, 1) := by decide +kernel
theorem dX0_told_27 : decode cX0_told 27 = .ok (.ifCond .ne 10, 3) := by decide +kernel
theorem dX0_told_30 : decode cX0_told 30 = .ok (.aload_n 3, 1) := by decide +kernel
theorem dX0_told_31 : decode cX0_told 31 = .ok (.getfield 83, 3) := by decide +kernel
theorem dX0_told_34 : decode cX0_told 34 = .ok (.goto 19, 3) := by decide +kernel
theorem dX0_told_37 : decode cX0_told 37 = .ok (.iload_n 2, 1) := by decide +kernel
theorem dX0_told_38 : decode cX0_told 38 = .ok (.iconst 1, 1) := by decide +kernel
theorem dX0_told_39 : decode cX0_told 39 = .ok (.if_icmp .ne 10, 3) := by decide +kernel
theorem dX0_told_42 : decode cX0_told 42 = .ok (.aload_n 3, 1) := by decide +kernel
theorem dX0_told_43 : decode cX0_told 43 = .ok (.getfield 86, 3) := by decide +kernel
theorem dX0_told_46 : decode cX0_told 46 = .ok (.goto 7, 3) := by decide +kernel
theorem dX0_told_49 : decode cX0_told 49 = .ok (.aload_n 3, 1) := by decide +kernel
theorem dX0_told_50 : decode cX0_told 50 = .ok (.getfield 89, 3) := by decide +kernel
theorem dX0_told_53 : decode cX0_told 53 = .ok (.ireturn, 1) := by decide +kernel
