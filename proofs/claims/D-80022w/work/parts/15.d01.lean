/-! decode rows (by a program) -/
set_option maxRecDepth 100000
theorem dX0_turn_0 : decode cX0_turn 0 = .ok (.iload_n 1, 1) := by decide +kernel
theorem dX0_turn_1 : decode cX0_turn 1 = .ok (.invokestatic 120, 3) := by decide +kernel
theorem dX0_turn_4 : decode cX0_turn 4 = .ok (.ifCond .ne 5, 3) := by decide +kernel
theorem dX0_turn_7 : decode cX0_turn 7 = .ok (.iconst (-1), 1) := by decide +kernel
theorem dX0_turn_8 : decode cX0_turn 8 = .ok (.ireturn, 1) := by decide +kernel
theorem dX0_turn_9 : decode cX0_turn 9 = .ok (.aload_n 0, 1) := by decide +kernel
theorem dX0_turn_10 : decode cX0_turn 10 = .ok (.getfield 35, 3) := by decide +kernel
theorem dX0_turn_13 : decode cX0_turn 13 = .ok (.iload_n 1, 1) := by decide +kernel
theorem dX0_turn_14 : decode cX0_turn 14 = .ok (.aaload, 1) := by decide +kernel
theorem dX0_turn_15 : decode cX0_turn 15 = .ok (.astore_n 2, 1) := by decide +kernel
theorem dX0_turn_16 : decode cX0_turn 16 = .ok (.aload_n 2, 1) := by decide +kernel
theorem dX0_turn_17 : decode cX0_turn 17 = .ok (.getfield 127, 3) := by decide +kernel
theorem dX0_turn_20 : decode cX0_turn 20 = .ok (.getstatic 131, 3) := by decide +kernel
theorem dX0_turn_23 : decode cX0_turn 23 = .ok (.if_acmp .ne 10, 3) := by decide +kernel
theorem dX0_turn_26 : decode cX0_turn 26 = .ok (.getstatic 139, 3) := by decide +kernel
theorem dX0_turn_29 : decode cX0_turn 29 = .ok (.invokevirtual 144, 3) := by decide +kernel
theorem dX0_turn_32 : decode cX0_turn 32 = .ok (.ireturn, 1) := by decide +kernel
theorem dX0_turn_33 : decode cX0_turn 33 = .ok (.aload_n 2, 1) := by decide +kernel
theorem dX0_turn_34 : decode cX0_turn 34 = .ok (.getfield 127, 3) := by decide +kernel
theorem dX0_turn_37 : decode cX0_turn 37 = .ok (.getstatic 148, 3) := by decide +kernel
theorem dX0_turn_40 : decode cX0_turn 40 = .ok (.if_acmp .ne 20, 3) := by decide +kernel
theorem dX0_turn_43 : decode cX0_turn 43 = .ok (.aload_n 2, 1) := by decide +kernel
theorem dX0_turn_44 : decode cX0_turn 44 = .ok (.getfield 57, 3) := by decide +kernel
theorem dX0_turn_47 : decode cX0_turn 47 = .ok (.invokevirtual 151, 3) := by decide +kernel
theorem dX0_turn_50 : decode cX0_turn 50 = .ok (.ifCond .eq 10, 3) := by decide +kernel
theorem dX0_turn_53 : decode cX0_turn 53 = .ok (.getstatic 155, 3) := by decide +kernel
theorem dX0_turn_56 : decode cX0_turn 56 = .ok (.invokevirtual 144, 3) := by decide +kernel
theorem dX0_turn_59 : decode cX0_turn 59 = .ok (.ireturn, 1) := by decide +kernel
theorem dX0_turn_60 : decode cX0_turn 60 = .ok (.aload_n 2, 1) := by decide +kernel
theorem dX0_turn_61 : decode cX0_turn 61 = .ok (.getfield 127, 3) := by decide +kernel
theorem dX0_turn_64 : decode cX0_turn 64 = .ok (.getstatic 157, 3) := by decide +kernel
theorem dX0_turn_67 : decode cX0_turn 67 = .ok (.if_acmp .eq 32, 3) := by decide +kernel
theorem dX0_turn_70 : decode cX0_turn 70 = .ok (.aload_n 2, 1) := by decide +kernel
theorem dX0_turn_71 : decode cX0_turn 71 = .ok (.getfield 57, 3) := by decide +kernel
theorem dX0_turn_74 : decode cX0_turn 74 = .ok (.aload_n 0, 1) := by decide +kernel
theorem dX0_turn_75 : decode cX0_turn 75 = .ok (.getfield 29, 3) := by decide +kernel
theorem dX0_turn_78 : decode cX0_turn 78 = .ok (.aload_n 0, 1) := by decide +kernel
theorem dX0_turn_79 : decode cX0_turn 79 = .ok (.getfield 22, 3) := by decide +kernel
theorem dX0_turn_82 : decode cX0_turn 82 = .ok (.aload_n 2, 1) := by decide +kernel
theorem dX0_turn_83 : decode cX0_turn 83 = .ok (.getfield 124, 3) := by decide +kernel
theorem dX0_turn_86 : decode cX0_turn 86 = .ok (.iconst 0, 1) := by decide +kernel
theorem dX0_turn_87 : decode cX0_turn 87 = .ok (.iaload, 1) := by decide +kernel
theorem dX0_turn_88 : decode cX0_turn 88 = .ok (.aaload, 1) := by decide +kernel
theorem dX0_turn_89 : decode cX0_turn 89 = .ok (.invokevirtual 160, 3) := by decide +kernel
theorem dX0_turn_92 : decode cX0_turn 92 = .ok (.aload_n 2, 1) := by decide +kernel
theorem dX0_turn_93 : decode cX0_turn 93 = .ok (.getstatic 157, 3) := by decide +kernel
theorem dX0_turn_96 : decode cX0_turn 96 = .ok (.putfield 127, 3) := by decide +kernel
theorem dX0_turn_99 : decode cX0_turn 99 = .ok (.aload_n 0, 1) := by decide +kernel
theorem dX0_turn_100 : decode cX0_turn 100 = .ok (.iload_n 1, 1) := by decide +kernel
theorem dX0_turn_101 : decode cX0_turn 101 = .ok (.aload_n 2, 1) := by decide +kernel
theorem dX0_turn_102 : decode cX0_turn 102 = .ok (.getfield 57, 3) := by decide +kernel
theorem dX0_turn_105 : decode cX0_turn 105 = .ok (.invokevirtual 164, 3) := by decide +kernel
theorem dX0_turn_108 : decode cX0_turn 108 = .ok (.invokevirtual 168, 3) := by decide +kernel
theorem dX0_turn_111 : decode cX0_turn 111 = .ok (.ireturn, 1) := by decide +kernel
theorem dX0_value_0 : decode cX0_value 0 = .ok (.iload_n 1, 1) := by decide +kernel
theorem dX0_value_1 : decode cX0_value 1 = .ok (.ifCond .lt 26, 3) := by decide +kernel
theorem dX0_value_4 : decode cX0_value 4 = .ok (.iload_n 1, 1) := by decide +kernel
theorem dX0_value_5 : decode cX0_value 5 = .ok (.aload_n 0, 1) := by decide +kernel
theorem dX0_value_6 : decode cX0_value 6 = .ok (.getfield 42, 3) := by decide +kernel
theorem dX0_value_9 : decode cX0_value 9 = .ok (.getfield 95, 3) := by decide +kernel
theorem dX0_value_12 : decode cX0_value 12 = .ok (.if_icmp .ge 15, 3) := by decide +kernel
theorem dX0_value_15 : decode cX0_value 15 = .ok (.aload_n 0, 1) := by decide +kernel
theorem dX0_value_16 : decode cX0_value 16 = .ok (.getfield 42, 3) := by decide +kernel
theorem dX0_value_19 : decode cX0_value 19 = .ok (.getfield 269, 3) := by decide +kernel
theorem dX0_value_22 : decode cX0_value 22 = .ok (.iload_n 1, 1) := by decide +kernel
theorem dX0_value_23 : decode cX0_value 23 = .ok (.laload, 1) := by decide +kernel
theorem dX0_value_24 : decode cX0_value 24 = .ok (.goto 4, 3) := by decide +kernel
theorem dX0_value_27 : decode cX0_value 27 = .ok (.lconst 0, 1) := by decide +kernel
theorem dX0_value_28 : decode cX0_value 28 = .ok (.lreturn, 1) := by decide +kernel
theorem dX0_version_0 : decode cX0_version 0 = .ok (.iload_n 1, 1) := by decide +kernel
theorem dX0_version_1 : decode cX0_version 1 = .ok (.invokestatic 92, 3) := by decide +kernel
theorem dX0_version_4 : decode cX0_version 4 = .ok (.ifCond .eq 15, 3) := by decide +kernel
theorem dX0_version_7 : decode cX0_version 7 = .ok (.aload_n 0, 1) := by decide +kernel
theorem dX0_version_8 : decode cX0_version 8 = .ok (.getfield 29, 3) := by decide +kernel
theorem dX0_version_11 : decode cX0_version 11 = .ok (.getfield 106, 3) := by decide +kernel
theorem dX0_version_14 : decode cX0_version 14 = .ok (.iload_n 1, 1) := by decide +kernel
theorem dX0_version_15 : decode cX0_version 15 = .ok (.iaload, 1) := by decide +kernel
theorem dX0_version_16 : decode cX0_version 16 = .ok (.goto 4, 3) := by decide +kernel
theorem dX0_version_19 : decode cX0_version 19 = .ok (.iconst (-1), 1) := by decide +kernel
theorem dX0_version_20 : decode cX0_version 20 = .ok (.ireturn, 1) := by decide +kernel
theorem dX1_body_0 : decode cX1_body 0 = .ok (.aload_n 0, 1) := by decide +kernel
theorem dX1_body_1 : decode cX1_body 1 = .ok (.getfield 39, 3) := by decide +kernel
theorem dX1_body_4 : decode cX1_body 4 = .ok (.bipush 123, 2) := by decide +kernel
theorem dX1_body_6 : decode cX1_body 6 = .ok (.if_icmp .ne 9, 3) := by decide +kernel
theorem dX1_body_9 : decode cX1_body 9 = .ok (.iload_n 1, 1) := by decide +kernel
theorem dX1_body_10 : decode cX1_body 10 = .ok (.bipush 8, 2) := by decide +kernel
theorem dX1_body_12 : decode cX1_body 12 = .ok (.if_icmp .ne 8, 3) := by decide +kernel
theorem dX1_body_15 : decode cX1_body 15 = .ok (.aload_n 0, 1) := by decide +kernel
theorem dX1_body_16 : decode cX1_body 16 = .ok (.invokevirtual 68, 3) := by decide +kernel
theorem dX1_body_19 : decode cX1_body 19 = .ok (.athrow, 1) := by decide +kernel
theorem dX1_body_20 : decode cX1_body 20 = .ok (.aload_n 0, 1) := by decide +kernel
theorem dX1_body_21 : decode cX1_body 21 = .ok (.invokevirtual 72, 3) := by decide +kernel
theorem dX1_body_24 : decode cX1_body 24 = .ok (.aload_n 0, 1) := by decide +kernel
theorem dX1_body_25 : decode cX1_body 25 = .ok (.getfield 100, 3) := by decide +kernel
theorem dX1_body_28 : decode cX1_body 28 = .ok (.aload_n 0, 1) := by decide +kernel
theorem dX1_body_29 : decode cX1_body 29 = .ok (.getfield 100, 3) := by decide +kernel
theorem dX1_body_32 : decode cX1_body 32 = .ok (.getfield 120, 3) := by decide +kernel
theorem dX1_body_35 : decode cX1_body 35 = .ok (.iload_n 1, 1) := by decide +kernel
theorem dX1_body_36 : decode cX1_body 36 = .ok (.iconst 1, 1) := by decide +kernel
theorem dX1_body_37 : decode cX1_body 37 = .ok (.iadd, 1) := by decide +kernel
theorem dX1_body_38 : decode cX1_body 38 = .ok (.invokestatic 123, 3) := by decide +kernel
theorem dX1_body_41 : decode cX1_body 41 = .ok (.putfield 120, 3) := by decide +kernel
theorem dX1_body_44 : decode cX1_body 44 = .ok (.aload_n 0, 1) := by decide +kernel
theorem dX1_body_45 : decode cX1_body 45 = .ok (.bipush 125, 2) := by decide +kernel
theorem dX1_body_47 : decode cX1_body 47 = .ok (.iload_n 1, 1) := by decide +kernel
theorem dX1_body_48 : decode cX1_body 48 = .ok (.iconst 1, 1) := by decide +kernel
theorem dX1_body_49 : decode cX1_body 49 = .ok (.iadd, 1) := by decide +kernel
theorem dX1_body_50 : decode cX1_body 50 = .ok (.invokevirtual 104, 3) := by decide +kernel
theorem dX1_body_53 : decode cX1_body 53 = .ok (.astore_n 2, 1) := by decide +kernel
theorem dX1_body_54 : decode cX1_body 54 = .ok (.aload_n 0, 1) := by decide +kernel
theorem dX1_body_55 : decode cX1_body 55 = .ok (.invokevirtual 72, 3) := by decide +kernel
theorem dX1_body_58 : decode cX1_body 58 = .ok (.aload_n 2, 1) := by decide +kernel
theorem dX1_body_59 : decode cX1_body 59 = .ok (.areturn, 1) := by decide +kernel
theorem dX1_ch_0 : decode cX1_ch 0 = .ok (.iload_n 1, 1) := by decide +kernel
theorem dX1_ch_1 : decode cX1_ch 1 = .ok (.aload_n 0, 1) := by decide +kernel
theorem dX1_ch_2 : decode cX1_ch 2 = .ok (.getfield 26, 3) := by decide +kernel
theorem dX1_ch_5 : decode cX1_ch 5 = .ok (.if_icmp .ge 16, 3) := by decide +kernel
theorem dX1_ch_8 : decode cX1_ch 8 = .ok (.aload_n 0, 1) := by decide +kernel
theorem dX1_ch_9 : decode cX1_ch 9 = .ok (.getfield 18, 3) := by decide +kernel
theorem dX1_ch_12 : decode cX1_ch 12 = .ok (.iload_n 1, 1) := by decide +kernel
theorem dX1_ch_13 : decode cX1_ch 13 = .ok (.baload, 1) := by decide +kernel
theorem dX1_ch_14 : decode cX1_ch 14 = .ok (.sipush 255, 3) := by decide +kernel
theorem dX1_ch_17 : decode cX1_ch 17 = .ok (.iand, 1) := by decide +kernel
theorem dX1_ch_18 : decode cX1_ch 18 = .ok (.goto 4, 3) := by decide +kernel
theorem dX1_ch_21 : decode cX1_ch 21 = .ok (.iconst (-1), 1) := by decide +kernel
theorem dX1_ch_22 : decode cX1_ch 22 = .ok (.ireturn, 1) := by decide +kernel
theorem dX1_exp_0 : decode cX1_exp 0 = .ok (.aload_n 0, 1) := by decide +kernel
theorem dX1_exp_1 : decode cX1_exp 1 = .ok (.iload_n 1, 1) := by decide +kernel
theorem dX1_exp_2 : decode cX1_exp 2 = .ok (.invokevirtual 228, 3) := by decide +kernel
theorem dX1_exp_5 : decode cX1_exp 5 = .ok (.astore_n 2, 1) := by decide +kernel
theorem dX1_exp_6 : decode cX1_exp 6 = .ok (.aload_n 0, 1) := by decide +kernel
theorem dX1_exp_7 : decode cX1_exp 7 = .ok (.getfield 39, 3) := by decide +kernel
theorem dX1_exp_10 : decode cX1_exp 10 = .ok (.bipush 60, 2) := by decide +kernel
theorem dX1_exp_12 : decode cX1_exp 12 = .ok (.if_icmp .eq 21, 3) := by decide +kernel
theorem dX1_exp_15 : decode cX1_exp 15 = .ok (.aload_n 0, 1) := by decide +kernel
theorem dX1_exp_16 : decode cX1_exp 16 = .ok (.getfield 39, 3) := by decide +kernel
theorem dX1_exp_19 : decode cX1_exp 19 = .ok (.bipush 61, 2) := by decide +kernel
theorem dX1_exp_21 : decode cX1_exp 21 = .ok (.if_icmp .eq 12, 3) := by decide +kernel
theorem dX1_exp_24 : decode cX1_exp 24 = .ok (.aload_n 0, 1) := by decide +kernel
theorem dX1_exp_25 : decode cX1_exp 25 = .ok (.getfield 39, 3) := by decide +kernel
theorem dX1_exp_28 : decode cX1_exp 28 = .ok (.bipush 35, 2) := by decide +kernel
theorem dX1_exp_30 : decode cX1_exp 30 = .ok (.if_icmp .ne 24, 3) := by decide +kernel
theorem dX1_exp_33 : decode cX1_exp 33 = .ok (.aload_n 0, 1) := by decide +kernel
theorem dX1_exp_34 : decode cX1_exp 34 = .ok (.getfield 39, 3) := by decide +kernel
theorem dX1_exp_37 : decode cX1_exp 37 = .ok (.istore_n 3, 1) := by decide +kernel
theorem dX1_exp_38 : decode cX1_exp 38 = .ok (.aload_n 0, 1) := by decide +kernel
theorem dX1_exp_39 : decode cX1_exp 39 = .ok (.invokevirtual 72, 3) := by decide +kernel
theorem dX1_exp_42 : decode cX1_exp 42 = .ok (.aload_n 0, 1) := by decide +kernel
theorem dX1_exp_43 : decode cX1_exp 43 = .ok (.iload_n 3, 1) := by decide +kernel
theorem dX1_exp_44 : decode cX1_exp 44 = .ok (.aload_n 2, 1) := by decide +kernel
theorem dX1_exp_45 : decode cX1_exp 45 = .ok (.aload_n 0, 1) := by decide +kernel
theorem dX1_exp_46 : decode cX1_exp 46 = .ok (.iload_n 1, 1) := by decide +kernel
theorem dX1_exp_47 : decode cX1_exp 47 = .ok (.invokevirtual 228, 3) := by decide +kernel
theorem dX1_exp_50 : decode cX1_exp 50 = .ok (.invokevirtual 231, 3) := by decide +kernel
theorem dX1_exp_53 : decode cX1_exp 53 = .ok (.astore_n 2, 1) := by decide +kernel
theorem dX1_exp_54 : decode cX1_exp 54 = .ok (.aload_n 2, 1) := by decide +kernel
theorem dX1_exp_55 : decode cX1_exp 55 = .ok (.areturn, 1) := by decide +kernel
theorem dX1_inParentheses_0 : decode cX1_inParentheses 0 = .ok (.aload_n 0, 1) := by decide +kernel
theorem dX1_inParentheses_1 : decode cX1_inParentheses 1 = .ok (.bipush 40, 2) := by decide +kernel
theorem dX1_inParentheses_3 : decode cX1_inParentheses 3 = .ok (.invokevirtual 129, 3) := by decide +kernel
theorem dX1_inParentheses_6 : decode cX1_inParentheses 6 = .ok (.aload_n 0, 1) := by decide +kernel
theorem dX1_inParentheses_7 : decode cX1_inParentheses 7 = .ok (.iconst 0, 1) := by decide +kernel
theorem dX1_inParentheses_8 : decode cX1_inParentheses 8 = .ok (.invokevirtual 133, 3) := by decide +kernel
theorem dX1_inParentheses_11 : decode cX1_inParentheses 11 = .ok (.astore_n 1, 1) := by decide +kernel
theorem dX1_inParentheses_12 : decode cX1_inParentheses 12 = .ok (.aload_n 0, 1) := by decide +kernel
theorem dX1_inParentheses_13 : decode cX1_inParentheses 13 = .ok (.bipush 41, 2) := by decide +kernel
theorem dX1_inParentheses_15 : decode cX1_inParentheses 15 = .ok (.invokevirtual 129, 3) := by decide +kernel
theorem dX1_inParentheses_18 : decode cX1_inParentheses 18 = .ok (.aload_n 1, 1) := by decide +kernel
theorem dX1_inParentheses_19 : decode cX1_inParentheses 19 = .ok (.areturn, 1) := by decide +kernel
theorem dX1_init_0 : decode cX1_init 0 = .ok (.aload_n 0, 1) := by decide +kernel
theorem dX1_init_1 : decode cX1_init 1 = .ok (.invokespecial 3, 3) := by decide +kernel
theorem dX1_init_4 : decode cX1_init 4 = .ok (.aload_n 0, 1) := by decide +kernel
theorem dX1_init_5 : decode cX1_init 5 = .ok (.new 9, 3) := by decide +kernel
theorem dX1_init_8 : decode cX1_init 8 = .ok (.dup, 1) := by decide +kernel
theorem dX1_init_9 : decode cX1_init 9 = .ok (.invokespecial 11, 3) := by decide +kernel
theorem dX1_init_12 : decode cX1_init 12 = .ok (.putfield 12, 3) := by decide +kernel
theorem dX1_init_15 : decode cX1_init 15 = .ok (.aload_n 0, 1) := by decide +kernel
theorem dX1_init_16 : decode cX1_init 16 = .ok (.sipush 820, 3) := by decide +kernel
theorem dX1_init_19 : decode cX1_init 19 = .ok (.newarray .byte, 2) := by decide +kernel
theorem dX1_init_21 : decode cX1_init 21 = .ok (.putfield 18, 3) := by decide +kernel
theorem dX1_init_24 : decode cX1_init 24 = .ok (.aload_n 0, 1) := by decide +kernel
theorem dX1_init_25 : decode cX1_init 25 = .ok (.iconst (-1), 1) := by decide +kernel
theorem dX1_init_26 : decode cX1_init 26 = .ok (.putfield 22, 3) := by decide +kernel
theorem dX1_init_29 : decode cX1_init 29 = .ok (.return_, 1) := by decide +kernel
theorem dX1_isDigit_0 : decode cX1_isDigit 0 = .ok (.iload_n 0, 1) := by decide +kernel
theorem dX1_isDigit_1 : decode cX1_isDigit 1 = .ok (.bipush 48, 2) := by decide +kernel
theorem dX1_isDigit_3 : decode cX1_isDigit 3 = .ok (.if_icmp .lt 13, 3) := by decide +kernel
theorem dX1_isDigit_6 : decode cX1_isDigit 6 = .ok (.iload_n 0, 1) := by decide +kernel
theorem dX1_isDigit_7 : decode cX1_isDigit 7 = .ok (.bipush 57, 2) := by decide +kernel
theorem dX1_isDigit_9 : decode cX1_isDigit 9 = .ok (.if_icmp .gt 7, 3) := by decide +kernel
theorem dX1_isDigit_12 : decode cX1_isDigit 12 = .ok (.iconst 1, 1) := by decide +kernel
theorem dX1_isDigit_13 : decode cX1_isDigit 13 = .ok (.goto 4, 3) := by decide +kernel
theorem dX1_isDigit_16 : decode cX1_isDigit 16 = .ok (.iconst 0, 1) := by decide +kernel
theorem dX1_isDigit_17 : decode cX1_isDigit 17 = .ok (.ireturn, 1) := by decide +kernel
theorem dX1_isLetter_0 : decode cX1_isLetter 0 = .ok (.iload_n 0, 1) := by decide +kernel
theorem dX1_isLetter_1 : decode cX1_isLetter 1 = .ok (.bipush 97, 2) := by decide +kernel
theorem dX1_isLetter_3 : decode cX1_isLetter 3 = .ok (.if_icmp .lt 13, 3) := by decide +kernel
theorem dX1_isLetter_6 : decode cX1_isLetter 6 = .ok (.iload_n 0, 1) := by decide +kernel
theorem dX1_isLetter_7 : decode cX1_isLetter 7 = .ok (.bipush 122, 2) := by decide +kernel
theorem dX1_isLetter_9 : decode cX1_isLetter 9 = .ok (.if_icmp .gt 7, 3) := by decide +kernel
theorem dX1_isLetter_12 : decode cX1_isLetter 12 = .ok (.iconst 1, 1) := by decide +kernel
theorem dX1_isLetter_13 : decode cX1_isLetter 13 = .ok (.goto 4, 3) := by decide +kernel
theorem dX1_isLetter_16 : decode cX1_isLetter 16 = .ok (.iconst 0, 1) := by decide +kernel
theorem dX1_isLetter_17 : decode cX1_isLetter 17 = .ok (.ireturn, 1) := by decide +kernel
theorem dX1_isWord_0 : decode cX1_isWord 0 = .ok (.aload_n 0, 1) := by decide +kernel
theorem dX1_isWord_1 : decode cX1_isWord 1 = .ok (.getfield 39, 3) := by decide +kernel
theorem dX1_isWord_4 : decode cX1_isWord 4 = .ok (.bipush 119, 2) := by decide +kernel
theorem dX1_isWord_6 : decode cX1_isWord 6 = .ok (.if_icmp .ne 23, 3) := by decide +kernel
theorem dX1_isWord_9 : decode cX1_isWord 9 = .ok (.aload_n 0, 1) := by decide +kernel
theorem dX1_isWord_10 : decode cX1_isWord 10 = .ok (.getfield 29, 3) := by decide +kernel
theorem dX1_isWord_13 : decode cX1_isWord 13 = .ok (.aload_n 0, 1) := by decide +kernel
theorem dX1_isWord_14 : decode cX1_isWord 14 = .ok (.getfield 36, 3) := by decide +kernel
theorem dX1_isWord_17 : decode cX1_isWord 17 = .ok (.isub, 1) := by decide +kernel
theorem dX1_isWord_18 : decode cX1_isWord 18 = .ok (.aload_n 1, 1) := by decide +kernel
theorem dX1_isWord_19 : decode cX1_isWord 19 = .ok (.invokevirtual 75, 3) := by decide +kernel
theorem dX1_isWord_22 : decode cX1_isWord 22 = .ok (.if_icmp .ne 7, 3) := by decide +kernel
theorem dX1_isWord_25 : decode cX1_isWord 25 = .ok (.iconst 1, 1) := by decide +kernel
theorem dX1_isWord_26 : decode cX1_isWord 26 = .ok (.goto 4, 3) := by decide +kernel
theorem dX1_isWord_29 : decode cX1_isWord 29 = .ok (.iconst 0, 1) := by decide +kernel
theorem dX1_isWord_30 : decode cX1_isWord 30 = .ok (.istore_n 2, 1) := by decide +kernel
theorem dX1_isWord_31 : decode cX1_isWord 31 = .ok (.iconst 0, 1) := by decide +kernel
theorem dX1_isWord_32 : decode cX1_isWord 32 = .ok (.istore_n 3, 1) := by decide +kernel
theorem dX1_isWord_33 : decode cX1_isWord 33 = .ok (.iload_n 2, 1) := by decide +kernel
theorem dX1_isWord_34 : decode cX1_isWord 34 = .ok (.ifCond .eq 41, 3) := by decide +kernel
theorem dX1_isWord_37 : decode cX1_isWord 37 = .ok (.iload_n 3, 1) := by decide +kernel
theorem dX1_isWord_38 : decode cX1_isWord 38 = .ok (.aload_n 1, 1) := by decide +kernel
theorem dX1_isWord_39 : decode cX1_isWord 39 = .ok (.invokevirtual 75, 3) := by decide +kernel
theorem dX1_isWord_42 : decode cX1_isWord 42 = .ok (.if_icmp .ge 33, 3) := by decide +kernel
theorem dX1_isWord_45 : decode cX1_isWord 45 = .ok (.aload_n 0, 1) := by decide +kernel
theorem dX1_isWord_46 : decode cX1_isWord 46 = .ok (.aload_n 0, 1) := by decide +kernel
theorem dX1_isWord_47 : decode cX1_isWord 47 = .ok (.getfield 36, 3) := by decide +kernel
theorem dX1_isWord_50 : decode cX1_isWord 50 = .ok (.iload_n 3, 1) := by decide +kernel
theorem dX1_isWord_51 : decode cX1_isWord 51 = .ok (.iadd, 1) := by decide +kernel
theorem dX1_isWord_52 : decode cX1_isWord 52 = .ok (.invokevirtual 32, 3) := by decide +kernel
theorem dX1_isWord_55 : decode cX1_isWord 55 = .ok (.aload_n 1, 1) := by decide +kernel
theorem dX1_isWord_56 : decode cX1_isWord 56 = .ok (.iload_n 3, 1) := by decide +kernel
theorem dX1_isWord_57 : decode cX1_isWord 57 = .ok (.invokevirtual 79, 3) := by decide +kernel
theorem dX1_isWord_60 : decode cX1_isWord 60 = .ok (.if_icmp .ne 7, 3) := by decide +kernel
theorem dX1_isWord_63 : decode cX1_isWord 63 = .ok (.iconst 1, 1) := by decide +kernel
theorem dX1_isWord_64 : decode cX1_isWord 64 = .ok (.goto 4, 3) := by decide +kernel
theorem dX1_isWord_67 : decode cX1_isWord 67 = .ok (.iconst 0, 1) := by decide +kernel
theorem dX1_isWord_68 : decode cX1_isWord 68 = .ok (.istore_n 2, 1) := by decide +kernel
theorem dX1_isWord_69 : decode cX1_isWord 69 = .ok (.iinc 3 1, 3) := by decide +kernel
theorem dX1_isWord_72 : decode cX1_isWord 72 = .ok (.goto (-39), 3) := by decide +kernel
theorem dX1_isWord_75 : decode cX1_isWord 75 = .ok (.iload_n 2, 1) := by decide +kernel
theorem dX1_isWord_76 : decode cX1_isWord 76 = .ok (.ireturn, 1) := by decide +kernel
theorem dX1_may_0 : decode cX1_may 0 = .ok (.aload_n 0, 1) := by decide +kernel
theorem dX1_may_1 : decode cX1_may 1 = .ok (.aload_n 1, 1) := by decide +kernel
theorem dX1_may_2 : decode cX1_may 2 = .ok (.invokevirtual 83, 3) := by decide +kernel
theorem dX1_may_5 : decode cX1_may 5 = .ok (.istore_n 2, 1) := by decide +kernel
theorem dX1_may_6 : decode cX1_may 6 = .ok (.iload_n 2, 1) := by decide +kernel
theorem dX1_may_7 : decode cX1_may 7 = .ok (.ifCond .eq 7, 3) := by decide +kernel
theorem dX1_may_10 : decode cX1_may 10 = .ok (.aload_n 0, 1) := by decide +kernel
theorem dX1_may_11 : decode cX1_may 11 = .ok (.invokevirtual 72, 3) := by decide +kernel
theorem dX1_may_14 : decode cX1_may 14 = .ok (.iload_n 2, 1) := by decide +kernel
theorem dX1_may_15 : decode cX1_may 15 = .ok (.ireturn, 1) := by decide +kernel
theorem dX1_next_0 : decode cX1_next 0 = .ok (.aload_n 0, 1) := by decide +kernel
theorem dX1_next_1 : decode cX1_next 1 = .ok (.aload_n 0, 1) := by decide +kernel
theorem dX1_next_2 : decode cX1_next 2 = .ok (.getfield 29, 3) := by decide +kernel
theorem dX1_next_5 : decode cX1_next 5 = .ok (.invokevirtual 32, 3) := by decide +kernel
theorem dX1_next_8 : decode cX1_next 8 = .ok (.bipush 32, 2) := by decide +kernel
theorem dX1_next_10 : decode cX1_next 10 = .ok (.if_icmp .eq 16, 3) := by decide +kernel
theorem dX1_next_13 : decode cX1_next 13 = .ok (.aload_n 0, 1) := by decide +kernel
theorem dX1_next_14 : decode cX1_next 14 = .ok (.aload_n 0, 1) := by decide +kernel
theorem dX1_next_15 : decode cX1_next 15 = .ok (.getfield 29, 3) := by decide +kernel
theorem dX1_next_18 : decode cX1_next 18 = .ok (.invokevirtual 32, 3) := by decide +kernel
theorem dX1_next_21 : decode cX1_next 21 = .ok (.bipush 10, 2) := by decide +kernel
theorem dX1_next_23 : decode cX1_next 23 = .ok (.if_icmp .ne 16, 3) := by decide +kernel
theorem dX1_next_26 : decode cX1_next 26 = .ok (.aload_n 0, 1) := by decide +kernel
theorem dX1_next_27 : decode cX1_next 27 = .ok (.dup, 1) := by decide +kernel
theorem dX1_next_28 : decode cX1_next 28 = .ok (.getfield 29, 3) := by decide +kernel
theorem dX1_next_31 : decode cX1_next 31 = .ok (.iconst 1, 1) := by decide +kernel
theorem dX1_next_32 : decode cX1_next 32 = .ok (.iadd, 1) := by decide +kernel
theorem dX1_next_33 : decode cX1_next 33 = .ok (.putfield 29, 3) := by decide +kernel
theorem dX1_next_36 : decode cX1_next 36 = .ok (.goto (-36), 3) := by decide +kernel
theorem dX1_next_39 : decode cX1_next 39 = .ok (.aload_n 0, 1) := by decide +kernel
theorem dX1_next_40 : decode cX1_next 40 = .ok (.aload_n 0, 1) := by decide +kernel
theorem dX1_next_41 : decode cX1_next 41 = .ok (.getfield 29, 3) := by decide +kernel
theorem dX1_next_44 : decode cX1_next 44 = .ok (.putfield 36, 3) := by decide +kernel
theorem dX1_next_47 : decode cX1_next 47 = .ok (.aload_n 0, 1) := by decide +kernel
theorem dX1_next_48 : decode cX1_next 48 = .ok (.aload_n 0, 1) := by decide +kernel
theorem dX1_next_49 : decode cX1_next 49 = .ok (.getfield 29, 3) := by decide +kernel
theorem dX1_next_52 : decode cX1_next 52 = .ok (.invokevirtual 32, 3) := by decide +kernel
theorem dX1_next_55 : decode cX1_next 55 = .ok (.istore_n 1, 1) := by decide +kernel
theorem dX1_next_56 : decode cX1_next 56 = .ok (.iload_n 1, 1) := by decide +kernel
theorem dX1_next_57 : decode cX1_next 57 = .ok (.iconst (-1), 1) := by decide +kernel
theorem dX1_next_58 : decode cX1_next 58 = .ok (.if_icmp .ne 11, 3) := by decide +kernel
theorem dX1_next_61 : decode cX1_next 61 = .ok (.aload_n 0, 1) := by decide +kernel
theorem dX1_next_62 : decode cX1_next 62 = .ok (.iconst 0, 1) := by decide +kernel
theorem dX1_next_63 : decode cX1_next 63 = .ok (.putfield 39, 3) := by decide +kernel
theorem dX1_next_66 : decode cX1_next 66 = .ok (.goto 216, 3) := by decide +kernel
theorem dX1_next_69 : decode cX1_next 69 = .ok (.iload_n 1, 1) := by decide +kernel
theorem dX1_next_70 : decode cX1_next 70 = .ok (.invokestatic 43, 3) := by decide +kernel
theorem dX1_next_73 : decode cX1_next 73 = .ok (.ifCond .eq 65, 3) := by decide +kernel
theorem dX1_next_76 : decode cX1_next 76 = .ok (.aload_n 0, 1) := by decide +kernel
theorem dX1_next_77 : decode cX1_next 77 = .ok (.aload_n 0, 1) := by decide +kernel
theorem dX1_next_78 : decode cX1_next 78 = .ok (.getfield 29, 3) := by decide +kernel
theorem dX1_next_81 : decode cX1_next 81 = .ok (.invokevirtual 32, 3) := by decide +kernel
theorem dX1_next_84 : decode cX1_next 84 = .ok (.invokestatic 43, 3) := by decide +kernel
theorem dX1_next_87 : decode cX1_next 87 = .ok (.ifCond .eq 16, 3) := by decide +kernel
theorem dX1_next_90 : decode cX1_next 90 = .ok (.aload_n 0, 1) := by decide +kernel
theorem dX1_next_91 : decode cX1_next 91 = .ok (.dup, 1) := by decide +kernel
theorem dX1_next_92 : decode cX1_next 92 = .ok (.getfield 29, 3) := by decide +kernel
theorem dX1_next_95 : decode cX1_next 95 = .ok (.iconst 1, 1) := by decide +kernel
theorem dX1_next_96 : decode cX1_next 96 = .ok (.iadd, 1) := by decide +kernel
theorem dX1_next_97 : decode cX1_next 97 = .ok (.putfield 29, 3) := by decide +kernel
theorem dX1_next_100 : decode cX1_next 100 = .ok (.goto (-24), 3) := by decide +kernel
theorem dX1_next_103 : decode cX1_next 103 = .ok (.aload_n 0, 1) := by decide +kernel
theorem dX1_next_104 : decode cX1_next 104 = .ok (.aload_n 0, 1) := by decide +kernel
theorem dX1_next_105 : decode cX1_next 105 = .ok (.getfield 29, 3) := by decide +kernel
theorem dX1_next_108 : decode cX1_next 108 = .ok (.aload_n 0, 1) := by decide +kernel
theorem dX1_next_109 : decode cX1_next 109 = .ok (.getfield 36, 3) := by decide +kernel
theorem dX1_next_112 : decode cX1_next 112 = .ok (.isub, 1) := by decide +kernel
theorem dX1_next_113 : decode cX1_next 113 = .ok (.iconst 1, 1) := by decide +kernel
theorem dX1_next_114 : decode cX1_next 114 = .ok (.if_icmp .ne 8, 3) := by decide +kernel
theorem dX1_next_117 : decode cX1_next 117 = .ok (.bipush 97, 2) := by decide +kernel
theorem dX1_next_119 : decode cX1_next 119 = .ok (.goto 5, 3) := by decide +kernel
theorem dX1_next_122 : decode cX1_next 122 = .ok (.bipush 119, 2) := by decide +kernel
theorem dX1_next_124 : decode cX1_next 124 = .ok (.putfield 39, 3) := by decide +kernel
theorem dX1_next_127 : decode cX1_next 127 = .ok (.aload_n 0, 1) := by decide +kernel
theorem dX1_next_128 : decode cX1_next 128 = .ok (.iload_n 1, 1) := by decide +kernel
theorem dX1_next_129 : decode cX1_next 129 = .ok (.bipush 97, 2) := by decide +kernel
theorem dX1_next_131 : decode cX1_next 131 = .ok (.isub, 1) := by decide +kernel
theorem dX1_next_132 : decode cX1_next 132 = .ok (.putfield 47, 3) := by decide +kernel
theorem dX1_next_135 : decode cX1_next 135 = .ok (.goto 147, 3) := by decide +kernel
theorem dX1_next_138 : decode cX1_next 138 = .ok (.iload_n 1, 1) := by decide +kernel
theorem dX1_next_139 : decode cX1_next 139 = .ok (.invokestatic 50, 3) := by decide +kernel
theorem dX1_next_142 : decode cX1_next 142 = .ok (.ifCond .eq 110, 3) := by decide +kernel
theorem dX1_next_145 : decode cX1_next 145 = .ok (.aload_n 0, 1) := by decide +kernel
theorem dX1_next_146 : decode cX1_next 146 = .ok (.lconst 0, 1) := by decide +kernel
theorem dX1_next_147 : decode cX1_next 147 = .ok (.putfield 53, 3) := by decide +kernel
theorem dX1_next_150 : decode cX1_next 150 = .ok (.aload_n 0, 1) := by decide +kernel
theorem dX1_next_151 : decode cX1_next 151 = .ok (.aload_n 0, 1) := by decide +kernel
theorem dX1_next_152 : decode cX1_next 152 = .ok (.getfield 29, 3) := by decide +kernel
theorem dX1_next_155 : decode cX1_next 155 = .ok (.invokevirtual 32, 3) := by decide +kernel
theorem dX1_next_158 : decode cX1_next 158 = .ok (.invokestatic 50, 3) := by decide +kernel
theorem dX1_next_161 : decode cX1_next 161 = .ok (.ifCond .eq 63, 3) := by decide +kernel
theorem dX1_next_164 : decode cX1_next 164 = .ok (.aload_n 0, 1) := by decide +kernel
theorem dX1_next_165 : decode cX1_next 165 = .ok (.aload_n 0, 1) := by decide +kernel
theorem dX1_next_166 : decode cX1_next 166 = .ok (.getfield 29, 3) := by decide +kernel
theorem dX1_next_169 : decode cX1_next 169 = .ok (.aload_n 0, 1) := by decide +kernel
theorem dX1_next_170 : decode cX1_next 170 = .ok (.getfield 36, 3) := by decide +kernel
theorem dX1_next_173 : decode cX1_next 173 = .ok (.isub, 1) := by decide +kernel
theorem dX1_next_174 : decode cX1_next 174 = .ok (.bipush 9, 2) := by decide +kernel
theorem dX1_next_176 : decode cX1_next 176 = .ok (.if_icmp .ge 28, 3) := by decide +kernel
theorem dX1_next_179 : decode cX1_next 179 = .ok (.ldc2_w 57, 3) := by decide +kernel
theorem dX1_next_182 : decode cX1_next 182 = .ok (.aload_n 0, 1) := by decide +kernel
theorem dX1_next_183 : decode cX1_next 183 = .ok (.getfield 53, 3) := by decide +kernel
theorem dX1_next_186 : decode cX1_next 186 = .ok (.lmul, 1) := by decide +kernel
theorem dX1_next_187 : decode cX1_next 187 = .ok (.aload_n 0, 1) := by decide +kernel
theorem dX1_next_188 : decode cX1_next 188 = .ok (.aload_n 0, 1) := by decide +kernel
theorem dX1_next_189 : decode cX1_next 189 = .ok (.getfield 29, 3) := by decide +kernel
theorem dX1_next_192 : decode cX1_next 192 = .ok (.invokevirtual 32, 3) := by decide +kernel
theorem dX1_next_195 : decode cX1_next 195 = .ok (.i2l, 1) := by decide +kernel
theorem dX1_next_196 : decode cX1_next 196 = .ok (.ladd, 1) := by decide +kernel
theorem dX1_next_197 : decode cX1_next 197 = .ok (.ldc2_w 59, 3) := by decide +kernel
theorem dX1_next_200 : decode cX1_next 200 = .ok (.lsub, 1) := by decide +kernel
theorem dX1_next_201 : decode cX1_next 201 = .ok (.goto 7, 3) := by decide +kernel
theorem dX1_next_204 : decode cX1_next 204 = .ok (.aload_n 0, 1) := by decide +kernel
theorem dX1_next_205 : decode cX1_next 205 = .ok (.getfield 53, 3) := by decide +kernel
theorem dX1_next_208 : decode cX1_next 208 = .ok (.putfield 53, 3) := by decide +kernel
theorem dX1_next_211 : decode cX1_next 211 = .ok (.aload_n 0, 1) := by decide +kernel
theorem dX1_next_212 : decode cX1_next 212 = .ok (.dup, 1) := by decide +kernel
theorem dX1_next_213 : decode cX1_next 213 = .ok (.getfield 29, 3) := by decide +kernel
theorem dX1_next_216 : decode cX1_next 216 = .ok (.iconst 1, 1) := by decide +kernel
theorem dX1_next_217 : decode cX1_next 217 = .ok (.iadd, 1) := by decide +kernel
theorem dX1_next_218 : decode cX1_next 218 = .ok (.putfield 29, 3) := by decide +kernel
theorem dX1_next_221 : decode cX1_next 221 = .ok (.goto (-71), 3) := by decide +kernel
theorem dX1_next_224 : decode cX1_next 224 = .ok (.aload_n 0, 1) := by decide +kernel
theorem dX1_next_225 : decode cX1_next 225 = .ok (.aload_n 0, 1) := by decide +kernel
theorem dX1_next_226 : decode cX1_next 226 = .ok (.getfield 29, 3) := by decide +kernel
theorem dX1_next_229 : decode cX1_next 229 = .ok (.aload_n 0, 1) := by decide +kernel
theorem dX1_next_230 : decode cX1_next 230 = .ok (.getfield 36, 3) := by decide +kernel
theorem dX1_next_233 : decode cX1_next 233 = .ok (.isub, 1) := by decide +kernel
theorem dX1_next_234 : decode cX1_next 234 = .ok (.bipush 9, 2) := by decide +kernel
theorem dX1_next_236 : decode cX1_next 236 = .ok (.if_icmp .gt 8, 3) := by decide +kernel
theorem dX1_next_239 : decode cX1_next 239 = .ok (.bipush 48, 2) := by decide +kernel
theorem dX1_next_241 : decode cX1_next 241 = .ok (.goto 5, 3) := by decide +kernel
theorem dX1_next_244 : decode cX1_next 244 = .ok (.bipush 63, 2) := by decide +kernel
theorem dX1_next_246 : decode cX1_next 246 = .ok (.putfield 39, 3) := by decide +kernel
theorem dX1_next_249 : decode cX1_next 249 = .ok (.goto 33, 3) := by decide +kernel
theorem dX1_next_252 : decode cX1_next 252 = .ok (.aload_n 0, 1) := by decide +kernel
theorem dX1_next_253 : decode cX1_next 253 = .ok (.ldc 61, 2) := by decide +kernel
theorem dX1_next_255 : decode cX1_next 255 = .ok (.iload_n 1, 1) := by decide +kernel
theorem dX1_next_256 : decode cX1_next 256 = .ok (.invokevirtual 63, 3) := by decide +kernel
theorem dX1_next_259 : decode cX1_next 259 = .ok (.ifCond .lt 8, 3) := by decide +kernel
theorem dX1_next_262 : decode cX1_next 262 = .ok (.iload_n 1, 1) := by decide +kernel
theorem dX1_next_263 : decode cX1_next 263 = .ok (.i2c, 1) := by decide +kernel
theorem dX1_next_264 : decode cX1_next 264 = .ok (.goto 5, 3) := by decide +kernel
theorem dX1_next_267 : decode cX1_next 267 = .ok (.bipush 63, 2) := by decide +kernel
theorem dX1_next_269 : decode cX1_next 269 = .ok (.putfield 39, 3) := by decide +kernel
theorem dX1_next_272 : decode cX1_next 272 = .ok (.aload_n 0, 1) := by decide +kernel
theorem dX1_next_273 : decode cX1_next 273 = .ok (.dup, 1) := by decide +kernel
theorem dX1_next_274 : decode cX1_next 274 = .ok (.getfield 29, 3) := by decide +kernel
theorem dX1_next_277 : decode cX1_next 277 = .ok (.iconst 1, 1) := by decide +kernel
theorem dX1_next_278 : decode cX1_next 278 = .ok (.iadd, 1) := by decide +kernel
theorem dX1_next_279 : decode cX1_next 279 = .ok (.putfield 29, 3) := by decide +kernel
theorem dX1_next_282 : decode cX1_next 282 = .ok (.return_, 1) := by decide +kernel
theorem dX1_operation_0 : decode cX1_operation 0 = .ok (.new 216, 3) := by decide +kernel
theorem dX1_operation_3 : decode cX1_operation 3 = .ok (.dup, 1) := by decide +kernel
theorem dX1_operation_4 : decode cX1_operation 4 = .ok (.invokespecial 218, 3) := by decide +kernel
theorem dX1_operation_7 : decode cX1_operation 7 = .ok (.astore 4, 2) := by decide +kernel
theorem dX1_operation_9 : decode cX1_operation 9 = .ok (.aload 4, 2) := by decide +kernel
theorem dX1_operation_11 : decode cX1_operation 11 = .ok (.iload_n 1, 1) := by decide +kernel
theorem dX1_operation_12 : decode cX1_operation 12 = .ok (.putfield 219, 3) := by decide +kernel
theorem dX1_operation_15 : decode cX1_operation 15 = .ok (.aload 4, 2) := by decide +kernel
theorem dX1_operation_17 : decode cX1_operation 17 = .ok (.aload_n 2, 1) := by decide +kernel
theorem dX1_operation_18 : decode cX1_operation 18 = .ok (.putfield 222, 3) := by decide +kernel
theorem dX1_operation_21 : decode cX1_operation 21 = .ok (.aload 4, 2) := by decide +kernel
theorem dX1_operation_23 : decode cX1_operation 23 = .ok (.aload_n 3, 1) := by decide +kernel
theorem dX1_operation_24 : decode cX1_operation 24 = .ok (.putfield 225, 3) := by decide +kernel
theorem dX1_operation_27 : decode cX1_operation 27 = .ok (.aload 4, 2) := by decide +kernel
theorem dX1_operation_29 : decode cX1_operation 29 = .ok (.areturn, 1) := by decide +kernel
theorem dX1_plain_0 : decode cX1_plain 0 = .ok (.aload_n 0, 1) := by decide +kernel
theorem dX1_plain_1 : decode cX1_plain 1 = .ok (.ldc 201, 2) := by decide +kernel
theorem dX1_plain_3 : decode cX1_plain 3 = .ok (.invokevirtual 155, 3) := by decide +kernel
theorem dX1_plain_6 : decode cX1_plain 6 = .ok (.ifCond .eq 13, 3) := by decide +kernel
theorem dX1_plain_9 : decode cX1_plain 9 = .ok (.aload_n 1, 1) := by decide +kernel
theorem dX1_plain_10 : decode cX1_plain 10 = .ok (.getstatic 203, 3) := by decide +kernel
theorem dX1_plain_13 : decode cX1_plain 13 = .ok (.putfield 146, 3) := by decide +kernel
theorem dX1_plain_16 : decode cX1_plain 16 = .ok (.goto 74, 3) := by decide +kernel
theorem dX1_plain_19 : decode cX1_plain 19 = .ok (.aload_n 0, 1) := by decide +kernel
theorem dX1_plain_20 : decode cX1_plain 20 = .ok (.ldc 206, 2) := by decide +kernel
theorem dX1_plain_22 : decode cX1_plain 22 = .ok (.invokevirtual 155, 3) := by decide +kernel
theorem dX1_plain_25 : decode cX1_plain 25 = .ok (.ifCond .eq 22, 3) := by decide +kernel
theorem dX1_plain_28 : decode cX1_plain 28 = .ok (.aload_n 1, 1) := by decide +kernel
theorem dX1_plain_29 : decode cX1_plain 29 = .ok (.getstatic 208, 3) := by decide +kernel
theorem dX1_plain_32 : decode cX1_plain 32 = .ok (.putfield 146, 3) := by decide +kernel
theorem dX1_plain_35 : decode cX1_plain 35 = .ok (.aload_n 1, 1) := by decide +kernel
theorem dX1_plain_36 : decode cX1_plain 36 = .ok (.aload_n 0, 1) := by decide +kernel
theorem dX1_plain_37 : decode cX1_plain 37 = .ok (.iconst 0, 1) := by decide +kernel
theorem dX1_plain_38 : decode cX1_plain 38 = .ok (.invokevirtual 133, 3) := by decide +kernel
theorem dX1_plain_41 : decode cX1_plain 41 = .ok (.putfield 150, 3) := by decide +kernel
theorem dX1_plain_44 : decode cX1_plain 44 = .ok (.goto 46, 3) := by decide +kernel
theorem dX1_plain_47 : decode cX1_plain 47 = .ok (.aload_n 0, 1) := by decide +kernel
theorem dX1_plain_48 : decode cX1_plain 48 = .ok (.ldc 211, 2) := by decide +kernel
theorem dX1_plain_50 : decode cX1_plain 50 = .ok (.invokevirtual 155, 3) := by decide +kernel
theorem dX1_plain_53 : decode cX1_plain 53 = .ok (.ifCond .eq 32, 3) := by decide +kernel
theorem dX1_plain_56 : decode cX1_plain 56 = .ok (.aload_n 1, 1) := by decide +kernel
theorem dX1_plain_57 : decode cX1_plain 57 = .ok (.getstatic 213, 3) := by decide +kernel
theorem dX1_plain_60 : decode cX1_plain 60 = .ok (.putfield 146, 3) := by decide +kernel
theorem dX1_plain_63 : decode cX1_plain 63 = .ok (.aload_n 0, 1) := by decide +kernel
theorem dX1_plain_64 : decode cX1_plain 64 = .ok (.iconst 1, 1) := by decide +kernel
theorem dX1_plain_65 : decode cX1_plain 65 = .ok (.putfield 93, 3) := by decide +kernel
theorem dX1_plain_68 : decode cX1_plain 68 = .ok (.aload_n 1, 1) := by decide +kernel
theorem dX1_plain_69 : decode cX1_plain 69 = .ok (.aload_n 0, 1) := by decide +kernel
theorem dX1_plain_70 : decode cX1_plain 70 = .ok (.iconst 0, 1) := by decide +kernel
theorem dX1_plain_71 : decode cX1_plain 71 = .ok (.invokevirtual 133, 3) := by decide +kernel
theorem dX1_plain_74 : decode cX1_plain 74 = .ok (.putfield 150, 3) := by decide +kernel
theorem dX1_plain_77 : decode cX1_plain 77 = .ok (.aload_n 0, 1) := by decide +kernel
theorem dX1_plain_78 : decode cX1_plain 78 = .ok (.iconst 0, 1) := by decide +kernel
theorem dX1_plain_79 : decode cX1_plain 79 = .ok (.putfield 93, 3) := by decide +kernel
theorem dX1_plain_82 : decode cX1_plain 82 = .ok (.goto 8, 3) := by decide +kernel
theorem dX1_plain_85 : decode cX1_plain 85 = .ok (.aload_n 0, 1) := by decide +kernel
theorem dX1_plain_86 : decode cX1_plain 86 = .ok (.invokevirtual 68, 3) := by decide +kernel
theorem dX1_plain_89 : decode cX1_plain 89 = .ok (.athrow, 1) := by decide +kernel
theorem dX1_plain_90 : decode cX1_plain 90 = .ok (.aload_n 0, 1) := by decide +kernel
theorem dX1_plain_91 : decode cX1_plain 91 = .ok (.bipush 59, 2) := by decide +kernel
theorem dX1_plain_93 : decode cX1_plain 93 = .ok (.invokevirtual 129, 3) := by decide +kernel
theorem dX1_plain_96 : decode cX1_plain 96 = .ok (.return_, 1) := by decide +kernel
theorem dX1_product_0 : decode cX1_product 0 = .ok (.aload_n 0, 1) := by decide +kernel
theorem dX1_product_1 : decode cX1_product 1 = .ok (.iload_n 1, 1) := by decide +kernel
theorem dX1_product_2 : decode cX1_product 2 = .ok (.invokevirtual 238, 3) := by decide +kernel
theorem dX1_product_5 : decode cX1_product 5 = .ok (.astore_n 2, 1) := by decide +kernel
theorem dX1_product_6 : decode cX1_product 6 = .ok (.aload_n 0, 1) := by decide +kernel
theorem dX1_product_7 : decode cX1_product 7 = .ok (.getfield 39, 3) := by decide +kernel
theorem dX1_product_10 : decode cX1_product 10 = .ok (.bipush 42, 2) := by decide +kernel
theorem dX1_product_12 : decode cX1_product 12 = .ok (.if_icmp .eq 21, 3) := by decide +kernel
theorem dX1_product_15 : decode cX1_product 15 = .ok (.aload_n 0, 1) := by decide +kernel
theorem dX1_product_16 : decode cX1_product 16 = .ok (.getfield 39, 3) := by decide +kernel
theorem dX1_product_19 : decode cX1_product 19 = .ok (.bipush 47, 2) := by decide +kernel
theorem dX1_product_21 : decode cX1_product 21 = .ok (.if_icmp .eq 12, 3) := by decide +kernel
theorem dX1_product_24 : decode cX1_product 24 = .ok (.aload_n 0, 1) := by decide +kernel
theorem dX1_product_25 : decode cX1_product 25 = .ok (.getfield 39, 3) := by decide +kernel
theorem dX1_product_28 : decode cX1_product 28 = .ok (.bipush 37, 2) := by decide +kernel
theorem dX1_product_30 : decode cX1_product 30 = .ok (.if_icmp .ne 27, 3) := by decide +kernel
theorem dX1_product_33 : decode cX1_product 33 = .ok (.aload_n 0, 1) := by decide +kernel
theorem dX1_product_34 : decode cX1_product 34 = .ok (.getfield 39, 3) := by decide +kernel
theorem dX1_product_37 : decode cX1_product 37 = .ok (.istore_n 3, 1) := by decide +kernel
theorem dX1_product_38 : decode cX1_product 38 = .ok (.aload_n 0, 1) := by decide +kernel
theorem dX1_product_39 : decode cX1_product 39 = .ok (.invokevirtual 72, 3) := by decide +kernel
theorem dX1_product_42 : decode cX1_product 42 = .ok (.aload_n 0, 1) := by decide +kernel
theorem dX1_product_43 : decode cX1_product 43 = .ok (.iload_n 3, 1) := by decide +kernel
theorem dX1_product_44 : decode cX1_product 44 = .ok (.aload_n 2, 1) := by decide +kernel
theorem dX1_product_45 : decode cX1_product 45 = .ok (.aload_n 0, 1) := by decide +kernel
theorem dX1_product_46 : decode cX1_product 46 = .ok (.iload_n 1, 1) := by decide +kernel
theorem dX1_product_47 : decode cX1_product 47 = .ok (.invokevirtual 238, 3) := by decide +kernel
theorem dX1_product_50 : decode cX1_product 50 = .ok (.invokevirtual 231, 3) := by decide +kernel
theorem dX1_product_53 : decode cX1_product 53 = .ok (.astore_n 2, 1) := by decide +kernel
theorem dX1_product_54 : decode cX1_product 54 = .ok (.goto (-48), 3) := by decide +kernel
theorem dX1_product_57 : decode cX1_product 57 = .ok (.aload_n 2, 1) := by decide +kernel
theorem dX1_product_58 : decode cX1_product 58 = .ok (.areturn, 1) := by decide +kernel
theorem dX1_read_0 : decode cX1_read 0 = .ok (.aload_n 1, 1) := by decide +kernel
theorem dX1_read_1 : decode cX1_read 1 = .ok (.iconst 0, 1) := by decide +kernel
theorem dX1_read_2 : decode cX1_read 2 = .ok (.aload_n 0, 1) := by decide +kernel
theorem dX1_read_3 : decode cX1_read 3 = .ok (.getfield 18, 3) := by decide +kernel
theorem dX1_read_6 : decode cX1_read 6 = .ok (.iconst 0, 1) := by decide +kernel
theorem dX1_read_7 : decode cX1_read 7 = .ok (.iload_n 2, 1) := by decide +kernel
theorem dX1_read_8 : decode cX1_read 8 = .ok (.invokestatic 87, 3) := by decide +kernel
theorem dX1_read_11 : decode cX1_read 11 = .ok (.aload_n 0, 1) := by decide +kernel
theorem dX1_read_12 : decode cX1_read 12 = .ok (.iload_n 2, 1) := by decide +kernel
theorem dX1_read_13 : decode cX1_read 13 = .ok (.putfield 26, 3) := by decide +kernel
theorem dX1_read_16 : decode cX1_read 16 = .ok (.aload_n 0, 1) := by decide +kernel
theorem dX1_read_17 : decode cX1_read 17 = .ok (.iconst 0, 1) := by decide +kernel
theorem dX1_read_18 : decode cX1_read 18 = .ok (.putfield 29, 3) := by decide +kernel
theorem dX1_read_21 : decode cX1_read 21 = .ok (.aload_n 0, 1) := by decide +kernel
theorem dX1_read_22 : decode cX1_read 22 = .ok (.iconst (-1), 1) := by decide +kernel
theorem dX1_read_23 : decode cX1_read 23 = .ok (.putfield 22, 3) := by decide +kernel
theorem dX1_read_26 : decode cX1_read 26 = .ok (.aload_n 0, 1) := by decide +kernel
theorem dX1_read_27 : decode cX1_read 27 = .ok (.iconst 0, 1) := by decide +kernel
theorem dX1_read_28 : decode cX1_read 28 = .ok (.putfield 93, 3) := by decide +kernel
theorem dX1_read_31 : decode cX1_read 31 = .ok (.aload_n 0, 1) := by decide +kernel
theorem dX1_read_32 : decode cX1_read 32 = .ok (.new 97, 3) := by decide +kernel
theorem dX1_read_35 : decode cX1_read 35 = .ok (.dup, 1) := by decide +kernel
theorem dX1_read_36 : decode cX1_read 36 = .ok (.invokespecial 99, 3) := by decide +kernel
theorem dX1_read_39 : decode cX1_read 39 = .ok (.putfield 100, 3) := by decide +kernel
theorem dX1_read_42 : decode cX1_read 42 = .ok (.aload_n 0, 1) := by decide +kernel
theorem dX1_read_43 : decode cX1_read 43 = .ok (.invokevirtual 72, 3) := by decide +kernel
theorem dX1_read_46 : decode cX1_read 46 = .ok (.aload_n 0, 1) := by decide +kernel
theorem dX1_read_47 : decode cX1_read 47 = .ok (.getfield 100, 3) := by decide +kernel
theorem dX1_read_50 : decode cX1_read 50 = .ok (.aload_n 0, 1) := by decide +kernel
theorem dX1_read_51 : decode cX1_read 51 = .ok (.iconst 0, 1) := by decide +kernel
theorem dX1_read_52 : decode cX1_read 52 = .ok (.iconst 0, 1) := by decide +kernel
theorem dX1_read_53 : decode cX1_read 53 = .ok (.invokevirtual 104, 3) := by decide +kernel
theorem dX1_read_56 : decode cX1_read 56 = .ok (.putfield 108, 3) := by decide +kernel
theorem dX1_read_59 : decode cX1_read 59 = .ok (.goto 9, 3) := by decide +kernel
theorem dX1_read_62 : decode cX1_read 62 = .ok (.astore_n 3, 1) := by decide +kernel
theorem dX1_read_63 : decode cX1_read 63 = .ok (.aload_n 0, 1) := by decide +kernel
theorem dX1_read_64 : decode cX1_read 64 = .ok (.aconst_null, 1) := by decide +kernel
theorem dX1_read_65 : decode cX1_read 65 = .ok (.putfield 100, 3) := by decide +kernel
theorem dX1_read_68 : decode cX1_read 68 = .ok (.aload_n 0, 1) := by decide +kernel
theorem dX1_read_69 : decode cX1_read 69 = .ok (.getfield 100, 3) := by decide +kernel
theorem dX1_read_72 : decode cX1_read 72 = .ok (.areturn, 1) := by decide +kernel
theorem dX1_statement_0 : decode cX1_statement 0 = .ok (.aload_n 0, 1) := by decide +kernel
theorem dX1_statement_1 : decode cX1_statement 1 = .ok (.getfield 100, 3) := by decide +kernel
theorem dX1_statement_4 : decode cX1_statement 4 = .ok (.getfield 137, 3) := by decide +kernel
theorem dX1_statement_7 : decode cX1_statement 7 = .ok (.bipush 40, 2) := by decide +kernel
theorem dX1_statement_9 : decode cX1_statement 9 = .ok (.if_icmp .ne 8, 3) := by decide +kernel
theorem dX1_statement_12 : decode cX1_statement 12 = .ok (.aload_n 0, 1) := by decide +kernel
theorem dX1_statement_13 : decode cX1_statement 13 = .ok (.invokevirtual 68, 3) := by decide +kernel
theorem dX1_statement_16 : decode cX1_statement 16 = .ok (.athrow, 1) := by decide +kernel
theorem dX1_statement_17 : decode cX1_statement 17 = .ok (.aload_n 0, 1) := by decide +kernel
theorem dX1_statement_18 : decode cX1_statement 18 = .ok (.getfield 100, 3) := by decide +kernel
theorem dX1_statement_21 : decode cX1_statement 21 = .ok (.dup, 1) := by decide +kernel
theorem dX1_statement_22 : decode cX1_statement 22 = .ok (.getfield 137, 3) := by decide +kernel
theorem dX1_statement_25 : decode cX1_statement 25 = .ok (.iconst 1, 1) := by decide +kernel
theorem dX1_statement_26 : decode cX1_statement 26 = .ok (.iadd, 1) := by decide +kernel
theorem dX1_statement_27 : decode cX1_statement 27 = .ok (.putfield 137, 3) := by decide +kernel
theorem dX1_statement_30 : decode cX1_statement 30 = .ok (.new 117, 3) := by decide +kernel
theorem dX1_statement_33 : decode cX1_statement 33 = .ok (.dup, 1) := by decide +kernel
theorem dX1_statement_34 : decode cX1_statement 34 = .ok (.invokespecial 139, 3) := by decide +kernel
theorem dX1_statement_37 : decode cX1_statement 37 = .ok (.astore_n 2, 1) := by decide +kernel
theorem dX1_statement_38 : decode cX1_statement 38 = .ok (.aload_n 0, 1) := by decide +kernel
theorem dX1_statement_39 : decode cX1_statement 39 = .ok (.getfield 39, 3) := by decide +kernel
theorem dX1_statement_42 : decode cX1_statement 42 = .ok (.bipush 97, 2) := by decide +kernel
theorem dX1_statement_44 : decode cX1_statement 44 = .ok (.if_icmp .ne 46, 3) := by decide +kernel
theorem dX1_statement_47 : decode cX1_statement 47 = .ok (.aload_n 2, 1) := by decide +kernel
theorem dX1_statement_48 : decode cX1_statement 48 = .ok (.getstatic 140, 3) := by decide +kernel
theorem dX1_statement_51 : decode cX1_statement 51 = .ok (.putfield 146, 3) := by decide +kernel
theorem dX1_statement_54 : decode cX1_statement 54 = .ok (.aload_n 2, 1) := by decide +kernel
theorem dX1_statement_55 : decode cX1_statement 55 = .ok (.aload_n 0, 1) := by decide +kernel
theorem dX1_statement_56 : decode cX1_statement 56 = .ok (.getfield 47, 3) := by decide +kernel
theorem dX1_statement_59 : decode cX1_statement 59 = .ok (.putfield 149, 3) := by decide +kernel
theorem dX1_statement_62 : decode cX1_statement 62 = .ok (.aload_n 0, 1) := by decide +kernel
theorem dX1_statement_63 : decode cX1_statement 63 = .ok (.invokevirtual 72, 3) := by decide +kernel
theorem dX1_statement_66 : decode cX1_statement 66 = .ok (.aload_n 0, 1) := by decide +kernel
theorem dX1_statement_67 : decode cX1_statement 67 = .ok (.bipush 61, 2) := by decide +kernel
theorem dX1_statement_69 : decode cX1_statement 69 = .ok (.invokevirtual 129, 3) := by decide +kernel
theorem dX1_statement_72 : decode cX1_statement 72 = .ok (.aload_n 2, 1) := by decide +kernel
theorem dX1_statement_73 : decode cX1_statement 73 = .ok (.aload_n 0, 1) := by decide +kernel
theorem dX1_statement_74 : decode cX1_statement 74 = .ok (.iconst 0, 1) := by decide +kernel
theorem dX1_statement_75 : decode cX1_statement 75 = .ok (.invokevirtual 133, 3) := by decide +kernel
theorem dX1_statement_78 : decode cX1_statement 78 = .ok (.putfield 150, 3) := by decide +kernel
theorem dX1_statement_81 : decode cX1_statement 81 = .ok (.aload_n 0, 1) := by decide +kernel
theorem dX1_statement_82 : decode cX1_statement 82 = .ok (.bipush 59, 2) := by decide +kernel
theorem dX1_statement_84 : decode cX1_statement 84 = .ok (.invokevirtual 129, 3) := by decide +kernel
theorem dX1_statement_87 : decode cX1_statement 87 = .ok (.goto 223, 3) := by decide +kernel
theorem dX1_statement_90 : decode cX1_statement 90 = .ok (.aload_n 0, 1) := by decide +kernel
theorem dX1_statement_91 : decode cX1_statement 91 = .ok (.ldc 153, 2) := by decide +kernel
theorem dX1_statement_93 : decode cX1_statement 93 = .ok (.invokevirtual 155, 3) := by decide +kernel
theorem dX1_statement_96 : decode cX1_statement 96 = .ok (.ifCond .eq 52, 3) := by decide +kernel
theorem dX1_statement_99 : decode cX1_statement 99 = .ok (.aload_n 2, 1) := by decide +kernel
theorem dX1_statement_100 : decode cX1_statement 100 = .ok (.getstatic 158, 3) := by decide +kernel
theorem dX1_statement_103 : decode cX1_statement 103 = .ok (.putfield 146, 3) := by decide +kernel
theorem dX1_statement_106 : decode cX1_statement 106 = .ok (.aload_n 2, 1) := by decide +kernel
theorem dX1_statement_107 : decode cX1_statement 107 = .ok (.aload_n 0, 1) := by decide +kernel
theorem dX1_statement_108 : decode cX1_statement 108 = .ok (.invokevirtual 161, 3) := by decide +kernel
theorem dX1_statement_111 : decode cX1_statement 111 = .ok (.putfield 150, 3) := by decide +kernel
theorem dX1_statement_114 : decode cX1_statement 114 = .ok (.aload_n 2, 1) := by decide +kernel
theorem dX1_statement_115 : decode cX1_statement 115 = .ok (.aload_n 0, 1) := by decide +kernel
theorem dX1_statement_116 : decode cX1_statement 116 = .ok (.iload_n 1, 1) := by decide +kernel
theorem dX1_statement_117 : decode cX1_statement 117 = .ok (.invokevirtual 165, 3) := by decide +kernel
theorem dX1_statement_120 : decode cX1_statement 120 = .ok (.putfield 168, 3) := by decide +kernel
theorem dX1_statement_123 : decode cX1_statement 123 = .ok (.aload_n 2, 1) := by decide +kernel
theorem dX1_statement_124 : decode cX1_statement 124 = .ok (.aload_n 0, 1) := by decide +kernel
theorem dX1_statement_125 : decode cX1_statement 125 = .ok (.ldc 169, 2) := by decide +kernel
theorem dX1_statement_127 : decode cX1_statement 127 = .ok (.invokevirtual 155, 3) := by decide +kernel
theorem dX1_statement_130 : decode cX1_statement 130 = .ok (.ifCond .eq 11, 3) := by decide +kernel
theorem dX1_statement_133 : decode cX1_statement 133 = .ok (.aload_n 0, 1) := by decide +kernel
theorem dX1_statement_134 : decode cX1_statement 134 = .ok (.iload_n 1, 1) := by decide +kernel
theorem dX1_statement_135 : decode cX1_statement 135 = .ok (.invokevirtual 165, 3) := by decide +kernel
theorem dX1_statement_138 : decode cX1_statement 138 = .ok (.goto 4, 3) := by decide +kernel
theorem dX1_statement_141 : decode cX1_statement 141 = .ok (.aconst_null, 1) := by decide +kernel
theorem dX1_statement_142 : decode cX1_statement 142 = .ok (.putfield 171, 3) := by decide +kernel
theorem dX1_statement_145 : decode cX1_statement 145 = .ok (.goto 165, 3) := by decide +kernel
theorem dX1_statement_148 : decode cX1_statement 148 = .ok (.aload_n 0, 1) := by decide +kernel
theorem dX1_statement_149 : decode cX1_statement 149 = .ok (.ldc 174, 2) := by decide +kernel
theorem dX1_statement_151 : decode cX1_statement 151 = .ok (.invokevirtual 155, 3) := by decide +kernel
theorem dX1_statement_154 : decode cX1_statement 154 = .ok (.ifCond .eq 30, 3) := by decide +kernel
theorem dX1_statement_157 : decode cX1_statement 157 = .ok (.aload_n 2, 1) := by decide +kernel
theorem dX1_statement_158 : decode cX1_statement 158 = .ok (.getstatic 176, 3) := by decide +kernel
theorem dX1_statement_161 : decode cX1_statement 161 = .ok (.putfield 146, 3) := by decide +kernel
theorem dX1_statement_164 : decode cX1_statement 164 = .ok (.aload_n 2, 1) := by decide +kernel
theorem dX1_statement_165 : decode cX1_statement 165 = .ok (.aload_n 0, 1) := by decide +kernel
theorem dX1_statement_166 : decode cX1_statement 166 = .ok (.invokevirtual 161, 3) := by decide +kernel
theorem dX1_statement_169 : decode cX1_statement 169 = .ok (.putfield 150, 3) := by decide +kernel
theorem dX1_statement_172 : decode cX1_statement 172 = .ok (.aload_n 2, 1) := by decide +kernel
theorem dX1_statement_173 : decode cX1_statement 173 = .ok (.aload_n 0, 1) := by decide +kernel
theorem dX1_statement_174 : decode cX1_statement 174 = .ok (.iload_n 1, 1) := by decide +kernel
theorem dX1_statement_175 : decode cX1_statement 175 = .ok (.invokevirtual 165, 3) := by decide +kernel
theorem dX1_statement_178 : decode cX1_statement 178 = .ok (.putfield 168, 3) := by decide +kernel
theorem dX1_statement_181 : decode cX1_statement 181 = .ok (.goto 129, 3) := by decide +kernel
theorem dX1_statement_184 : decode cX1_statement 184 = .ok (.aload_n 0, 1) := by decide +kernel
theorem dX1_statement_185 : decode cX1_statement 185 = .ok (.ldc 179, 2) := by decide +kernel
theorem dX1_statement_187 : decode cX1_statement 187 = .ok (.invokevirtual 155, 3) := by decide +kernel
theorem dX1_statement_190 : decode cX1_statement 190 = .ok (.ifCond .eq 37, 3) := by decide +kernel
theorem dX1_statement_193 : decode cX1_statement 193 = .ok (.aload_n 2, 1) := by decide +kernel
theorem dX1_statement_194 : decode cX1_statement 194 = .ok (.getstatic 181, 3) := by decide +kernel
theorem dX1_statement_197 : decode cX1_statement 197 = .ok (.putfield 146, 3) := by decide +kernel
theorem dX1_statement_200 : decode cX1_statement 200 = .ok (.aload_n 2, 1) := by decide +kernel
theorem dX1_statement_201 : decode cX1_statement 201 = .ok (.aload_n 0, 1) := by decide +kernel
theorem dX1_statement_202 : decode cX1_statement 202 = .ok (.iload_n 1, 1) := by decide +kernel
theorem dX1_statement_203 : decode cX1_statement 203 = .ok (.invokevirtual 165, 3) := by decide +kernel
theorem dX1_statement_206 : decode cX1_statement 206 = .ok (.putfield 168, 3) := by decide +kernel
theorem dX1_statement_209 : decode cX1_statement 209 = .ok (.aload_n 0, 1) := by decide +kernel
theorem dX1_statement_210 : decode cX1_statement 210 = .ok (.ldc 184, 2) := by decide +kernel
theorem dX1_statement_212 : decode cX1_statement 212 = .ok (.invokevirtual 186, 3) := by decide +kernel
theorem dX1_statement_215 : decode cX1_statement 215 = .ok (.aload_n 2, 1) := by decide +kernel
theorem dX1_statement_216 : decode cX1_statement 216 = .ok (.aload_n 0, 1) := by decide +kernel
theorem dX1_statement_217 : decode cX1_statement 217 = .ok (.iload_n 1, 1) := by decide +kernel
theorem dX1_statement_218 : decode cX1_statement 218 = .ok (.invokevirtual 165, 3) := by decide +kernel
theorem dX1_statement_221 : decode cX1_statement 221 = .ok (.putfield 171, 3) := by decide +kernel
theorem dX1_statement_224 : decode cX1_statement 224 = .ok (.goto 86, 3) := by decide +kernel
theorem dX1_statement_227 : decode cX1_statement 227 = .ok (.aload_n 0, 1) := by decide +kernel
theorem dX1_statement_228 : decode cX1_statement 228 = .ok (.ldc 190, 2) := by decide +kernel
theorem dX1_statement_230 : decode cX1_statement 230 = .ok (.invokevirtual 155, 3) := by decide +kernel
theorem dX1_statement_233 : decode cX1_statement 233 = .ok (.ifCond .eq 72, 3) := by decide +kernel
theorem dX1_statement_236 : decode cX1_statement 236 = .ok (.aload_n 2, 1) := by decide +kernel
theorem dX1_statement_237 : decode cX1_statement 237 = .ok (.getstatic 192, 3) := by decide +kernel
theorem dX1_statement_240 : decode cX1_statement 240 = .ok (.putfield 146, 3) := by decide +kernel
theorem dX1_statement_243 : decode cX1_statement 243 = .ok (.aload_n 2, 1) := by decide +kernel
theorem dX1_statement_244 : decode cX1_statement 244 = .ok (.aload_n 0, 1) := by decide +kernel
theorem dX1_statement_245 : decode cX1_statement 245 = .ok (.iload_n 1, 1) := by decide +kernel
theorem dX1_statement_246 : decode cX1_statement 246 = .ok (.invokevirtual 165, 3) := by decide +kernel
theorem dX1_statement_249 : decode cX1_statement 249 = .ok (.putfield 168, 3) := by decide +kernel
theorem dX1_statement_252 : decode cX1_statement 252 = .ok (.aload_n 0, 1) := by decide +kernel
theorem dX1_statement_253 : decode cX1_statement 253 = .ok (.ldc 195, 2) := by decide +kernel
theorem dX1_statement_255 : decode cX1_statement 255 = .ok (.invokevirtual 186, 3) := by decide +kernel
theorem dX1_statement_258 : decode cX1_statement 258 = .ok (.aload_n 0, 1) := by decide +kernel
theorem dX1_statement_259 : decode cX1_statement 259 = .ok (.getfield 39, 3) := by decide +kernel
theorem dX1_statement_262 : decode cX1_statement 262 = .ok (.bipush 97, 2) := by decide +kernel
theorem dX1_statement_264 : decode cX1_statement 264 = .ok (.if_icmp .ne 12, 3) := by decide +kernel
theorem dX1_statement_267 : decode cX1_statement 267 = .ok (.aload_n 0, 1) := by decide +kernel
theorem dX1_statement_268 : decode cX1_statement 268 = .ok (.getfield 47, 3) := by decide +kernel
theorem dX1_statement_271 : decode cX1_statement 271 = .ok (.bipush 16, 2) := by decide +kernel
theorem dX1_statement_273 : decode cX1_statement 273 = .ok (.if_icmp .ge 8, 3) := by decide +kernel
theorem dX1_statement_276 : decode cX1_statement 276 = .ok (.aload_n 0, 1) := by decide +kernel
theorem dX1_statement_277 : decode cX1_statement 277 = .ok (.invokevirtual 68, 3) := by decide +kernel
theorem dX1_statement_280 : decode cX1_statement 280 = .ok (.athrow, 1) := by decide +kernel
theorem dX1_statement_281 : decode cX1_statement 281 = .ok (.aload_n 2, 1) := by decide +kernel
theorem dX1_statement_282 : decode cX1_statement 282 = .ok (.aload_n 0, 1) := by decide +kernel
theorem dX1_statement_283 : decode cX1_statement 283 = .ok (.getfield 47, 3) := by decide +kernel
theorem dX1_statement_286 : decode cX1_statement 286 = .ok (.putfield 149, 3) := by decide +kernel
theorem dX1_statement_289 : decode cX1_statement 289 = .ok (.aload_n 0, 1) := by decide +kernel
theorem dX1_statement_290 : decode cX1_statement 290 = .ok (.invokevirtual 72, 3) := by decide +kernel
theorem dX1_statement_293 : decode cX1_statement 293 = .ok (.aload_n 2, 1) := by decide +kernel
theorem dX1_statement_294 : decode cX1_statement 294 = .ok (.aload_n 0, 1) := by decide +kernel
theorem dX1_statement_295 : decode cX1_statement 295 = .ok (.iload_n 1, 1) := by decide +kernel
theorem dX1_statement_296 : decode cX1_statement 296 = .ok (.invokevirtual 165, 3) := by decide +kernel
theorem dX1_statement_299 : decode cX1_statement 299 = .ok (.putfield 171, 3) := by decide +kernel
theorem dX1_statement_302 : decode cX1_statement 302 = .ok (.goto 8, 3) := by decide +kernel
theorem dX1_statement_305 : decode cX1_statement 305 = .ok (.aload_n 0, 1) := by decide +kernel
theorem dX1_statement_306 : decode cX1_statement 306 = .ok (.aload_n 2, 1) := by decide +kernel
theorem dX1_statement_307 : decode cX1_statement 307 = .ok (.invokevirtual 197, 3) := by decide +kernel
theorem dX1_statement_310 : decode cX1_statement 310 = .ok (.aload_n 2, 1) := by decide +kernel
theorem dX1_statement_311 : decode cX1_statement 311 = .ok (.areturn, 1) := by decide +kernel
theorem dX1_statements_0 : decode cX1_statements 0 = .ok (.aconst_null, 1) := by decide +kernel
theorem dX1_statements_1 : decode cX1_statements 1 = .ok (.astore_n 3, 1) := by decide +kernel
theorem dX1_statements_2 : decode cX1_statements 2 = .ok (.aconst_null, 1) := by decide +kernel
theorem dX1_statements_3 : decode cX1_statements 3 = .ok (.astore 4, 2) := by decide +kernel
theorem dX1_statements_5 : decode cX1_statements 5 = .ok (.aload_n 0, 1) := by decide +kernel
theorem dX1_statements_6 : decode cX1_statements 6 = .ok (.getfield 39, 3) := by decide +kernel
theorem dX1_statements_9 : decode cX1_statements 9 = .ok (.iload_n 1, 1) := by decide +kernel
theorem dX1_statements_10 : decode cX1_statements 10 = .ok (.if_icmp .eq 35, 3) := by decide +kernel
theorem dX1_statements_13 : decode cX1_statements 13 = .ok (.aload_n 0, 1) := by decide +kernel
theorem dX1_statements_14 : decode cX1_statements 14 = .ok (.iload_n 2, 1) := by decide +kernel
theorem dX1_statements_15 : decode cX1_statements 15 = .ok (.invokevirtual 112, 3) := by decide +kernel
theorem dX1_statements_18 : decode cX1_statements 18 = .ok (.astore 5, 2) := by decide +kernel
theorem dX1_statements_20 : decode cX1_statements 20 = .ok (.aload 4, 2) := by decide +kernel
theorem dX1_statements_22 : decode cX1_statements 22 = .ok (.ifnonnull 9, 3) := by decide +kernel
theorem dX1_statements_25 : decode cX1_statements 25 = .ok (.aload 5, 2) := by decide +kernel
theorem dX1_statements_27 : decode cX1_statements 27 = .ok (.astore_n 3, 1) := by decide +kernel
theorem dX1_statements_28 : decode cX1_statements 28 = .ok (.goto 10, 3) := by decide +kernel
theorem dX1_statements_31 : decode cX1_statements 31 = .ok (.aload 4, 2) := by decide +kernel
theorem dX1_statements_33 : decode cX1_statements 33 = .ok (.aload 5, 2) := by decide +kernel
theorem dX1_statements_35 : decode cX1_statements 35 = .ok (.putfield 116, 3) := by decide +kernel
theorem dX1_statements_38 : decode cX1_statements 38 = .ok (.aload 5, 2) := by decide +kernel
theorem dX1_statements_40 : decode cX1_statements 40 = .ok (.astore 4, 2) := by decide +kernel
theorem dX1_statements_42 : decode cX1_statements 42 = .ok (.goto (-37), 3) := by decide +kernel
theorem dX1_statements_45 : decode cX1_statements 45 = .ok (.aload_n 3, 1) := by decide +kernel
theorem dX1_statements_46 : decode cX1_statements 46 = .ok (.areturn, 1) := by decide +kernel
theorem dX1_sum_0 : decode cX1_sum 0 = .ok (.aload_n 0, 1) := by decide +kernel
theorem dX1_sum_1 : decode cX1_sum 1 = .ok (.iload_n 1, 1) := by decide +kernel
theorem dX1_sum_2 : decode cX1_sum 2 = .ok (.invokevirtual 235, 3) := by decide +kernel
theorem dX1_sum_5 : decode cX1_sum 5 = .ok (.astore_n 2, 1) := by decide +kernel
theorem dX1_sum_6 : decode cX1_sum 6 = .ok (.aload_n 0, 1) := by decide +kernel
theorem dX1_sum_7 : decode cX1_sum 7 = .ok (.getfield 39, 3) := by decide +kernel
theorem dX1_sum_10 : decode cX1_sum 10 = .ok (.bipush 43, 2) := by decide +kernel
theorem dX1_sum_12 : decode cX1_sum 12 = .ok (.if_icmp .eq 12, 3) := by decide +kernel
theorem dX1_sum_15 : decode cX1_sum 15 = .ok (.aload_n 0, 1) := by decide +kernel
theorem dX1_sum_16 : decode cX1_sum 16 = .ok (.getfield 39, 3) := by decide +kernel
theorem dX1_sum_19 : decode cX1_sum 19 = .ok (.bipush 45, 2) := by decide +kernel
theorem dX1_sum_21 : decode cX1_sum 21 = .ok (.if_icmp .ne 27, 3) := by decide +kernel
theorem dX1_sum_24 : decode cX1_sum 24 = .ok (.aload_n 0, 1) := by decide +kernel
theorem dX1_sum_25 : decode cX1_sum 25 = .ok (.getfield 39, 3) := by decide +kernel
theorem dX1_sum_28 : decode cX1_sum 28 = .ok (.istore_n 3, 1) := by decide +kernel
theorem dX1_sum_29 : decode cX1_sum 29 = .ok (.aload_n 0, 1) := by decide +kernel
theorem dX1_sum_30 : decode cX1_sum 30 = .ok (.invokevirtual 72, 3) := by decide +kernel
theorem dX1_sum_33 : decode cX1_sum 33 = .ok (.aload_n 0, 1) := by decide +kernel
theorem dX1_sum_34 : decode cX1_sum 34 = .ok (.iload_n 3, 1) := by decide +kernel
theorem dX1_sum_35 : decode cX1_sum 35 = .ok (.aload_n 2, 1) := by decide +kernel
theorem dX1_sum_36 : decode cX1_sum 36 = .ok (.aload_n 0, 1) := by decide +kernel
theorem dX1_sum_37 : decode cX1_sum 37 = .ok (.iload_n 1, 1) := by decide +kernel
theorem dX1_sum_38 : decode cX1_sum 38 = .ok (.invokevirtual 235, 3) := by decide +kernel
theorem dX1_sum_41 : decode cX1_sum 41 = .ok (.invokevirtual 231, 3) := by decide +kernel
theorem dX1_sum_44 : decode cX1_sum 44 = .ok (.astore_n 2, 1) := by decide +kernel
theorem dX1_sum_45 : decode cX1_sum 45 = .ok (.goto (-39), 3) := by decide +kernel
theorem dX1_sum_48 : decode cX1_sum 48 = .ok (.aload_n 2, 1) := by decide +kernel
theorem dX1_sum_49 : decode cX1_sum 49 = .ok (.areturn, 1) := by decide +kernel
theorem dX1_unary_0 : decode cX1_unary 0 = .ok (.aload_n 0, 1) := by decide +kernel
theorem dX1_unary_1 : decode cX1_unary 1 = .ok (.getfield 39, 3) := by decide +kernel
theorem dX1_unary_4 : decode cX1_unary 4 = .ok (.bipush 45, 2) := by decide +kernel
theorem dX1_unary_6 : decode cX1_unary 6 = .ok (.if_icmp .eq 12, 3) := by decide +kernel
theorem dX1_unary_9 : decode cX1_unary 9 = .ok (.aload_n 0, 1) := by decide +kernel
theorem dX1_unary_10 : decode cX1_unary 10 = .ok (.getfield 39, 3) := by decide +kernel
theorem dX1_unary_13 : decode cX1_unary 13 = .ok (.bipush 40, 2) := by decide +kernel
theorem dX1_unary_15 : decode cX1_unary 15 = .ok (.if_icmp .ne 7, 3) := by decide +kernel
theorem dX1_unary_18 : decode cX1_unary 18 = .ok (.iconst 1, 1) := by decide +kernel
theorem dX1_unary_19 : decode cX1_unary 19 = .ok (.goto 4, 3) := by decide +kernel
theorem dX1_unary_22 : decode cX1_unary 22 = .ok (.iconst 0, 1) := by decide +kernel
theorem dX1_unary_23 : decode cX1_unary 23 = .ok (.istore_n 2, 1) := by decide +kernel
theorem dX1_unary_24 : decode cX1_unary 24 = .ok (.aload_n 0, 1) := by decide +kernel
theorem dX1_unary_25 : decode cX1_unary 25 = .ok (.getfield 100, 3) := by decide +kernel
theorem dX1_unary_28 : decode cX1_unary 28 = .ok (.getfield 241, 3) := by decide +kernel
theorem dX1_unary_31 : decode cX1_unary 31 = .ok (.bipush 60, 2) := by decide +kernel
theorem dX1_unary_33 : decode cX1_unary 33 = .ok (.if_icmp .eq 13, 3) := by decide +kernel
theorem dX1_unary_36 : decode cX1_unary 36 = .ok (.iload_n 2, 1) := by decide +kernel
theorem dX1_unary_37 : decode cX1_unary 37 = .ok (.ifCond .eq 14, 3) := by decide +kernel
theorem dX1_unary_40 : decode cX1_unary 40 = .ok (.iload_n 1, 1) := by decide +kernel
theorem dX1_unary_41 : decode cX1_unary 41 = .ok (.bipush 8, 2) := by decide +kernel
theorem dX1_unary_43 : decode cX1_unary 43 = .ok (.if_icmp .ne 8, 3) := by decide +kernel
theorem dX1_unary_46 : decode cX1_unary 46 = .ok (.aload_n 0, 1) := by decide +kernel
theorem dX1_unary_47 : decode cX1_unary 47 = .ok (.invokevirtual 68, 3) := by decide +kernel
theorem dX1_unary_50 : decode cX1_unary 50 = .ok (.athrow, 1) := by decide +kernel
theorem dX1_unary_51 : decode cX1_unary 51 = .ok (.aload_n 0, 1) := by decide +kernel
theorem dX1_unary_52 : decode cX1_unary 52 = .ok (.getfield 100, 3) := by decide +kernel
theorem dX1_unary_55 : decode cX1_unary 55 = .ok (.dup, 1) := by decide +kernel
theorem dX1_unary_56 : decode cX1_unary 56 = .ok (.getfield 241, 3) := by decide +kernel
theorem dX1_unary_59 : decode cX1_unary 59 = .ok (.iconst 1, 1) := by decide +kernel
theorem dX1_unary_60 : decode cX1_unary 60 = .ok (.iadd, 1) := by decide +kernel
theorem dX1_unary_61 : decode cX1_unary 61 = .ok (.putfield 241, 3) := by decide +kernel
theorem dX1_unary_64 : decode cX1_unary 64 = .ok (.new 216, 3) := by decide +kernel
theorem dX1_unary_67 : decode cX1_unary 67 = .ok (.dup, 1) := by decide +kernel
theorem dX1_unary_68 : decode cX1_unary 68 = .ok (.invokespecial 218, 3) := by decide +kernel
theorem dX1_unary_71 : decode cX1_unary 71 = .ok (.astore_n 3, 1) := by decide +kernel
theorem dX1_unary_72 : decode cX1_unary 72 = .ok (.aload_n 0, 1) := by decide +kernel
theorem dX1_unary_73 : decode cX1_unary 73 = .ok (.getfield 39, 3) := by decide +kernel
theorem dX1_unary_76 : decode cX1_unary 76 = .ok (.bipush 45, 2) := by decide +kernel
theorem dX1_unary_78 : decode cX1_unary 78 = .ok (.if_icmp .ne 25, 3) := by decide +kernel
theorem dX1_unary_81 : decode cX1_unary 81 = .ok (.aload_n 0, 1) := by decide +kernel
theorem dX1_unary_82 : decode cX1_unary 82 = .ok (.invokevirtual 72, 3) := by decide +kernel
theorem dX1_unary_85 : decode cX1_unary 85 = .ok (.aload_n 0, 1) := by decide +kernel
theorem dX1_unary_86 : decode cX1_unary 86 = .ok (.bipush 126, 2) := by decide +kernel
theorem dX1_unary_88 : decode cX1_unary 88 = .ok (.aload_n 0, 1) := by decide +kernel
theorem dX1_unary_89 : decode cX1_unary 89 = .ok (.iload_n 1, 1) := by decide +kernel
theorem dX1_unary_90 : decode cX1_unary 90 = .ok (.iconst 1, 1) := by decide +kernel
theorem dX1_unary_91 : decode cX1_unary 91 = .ok (.iadd, 1) := by decide +kernel
theorem dX1_unary_92 : decode cX1_unary 92 = .ok (.invokevirtual 238, 3) := by decide +kernel
theorem dX1_unary_95 : decode cX1_unary 95 = .ok (.aconst_null, 1) := by decide +kernel
theorem dX1_unary_96 : decode cX1_unary 96 = .ok (.invokevirtual 231, 3) := by decide +kernel
theorem dX1_unary_99 : decode cX1_unary 99 = .ok (.astore_n 3, 1) := by decide +kernel
theorem dX1_unary_100 : decode cX1_unary 100 = .ok (.goto 111, 3) := by decide +kernel
theorem dX1_unary_103 : decode cX1_unary 103 = .ok (.aload_n 0, 1) := by decide +kernel
theorem dX1_unary_104 : decode cX1_unary 104 = .ok (.getfield 39, 3) := by decide +kernel
theorem dX1_unary_107 : decode cX1_unary 107 = .ok (.bipush 40, 2) := by decide +kernel
theorem dX1_unary_109 : decode cX1_unary 109 = .ok (.if_icmp .ne 24, 3) := by decide +kernel
theorem dX1_unary_112 : decode cX1_unary 112 = .ok (.aload_n 0, 1) := by decide +kernel
theorem dX1_unary_113 : decode cX1_unary 113 = .ok (.invokevirtual 72, 3) := by decide +kernel
theorem dX1_unary_116 : decode cX1_unary 116 = .ok (.aload_n 0, 1) := by decide +kernel
theorem dX1_unary_117 : decode cX1_unary 117 = .ok (.iload_n 1, 1) := by decide +kernel
theorem dX1_unary_118 : decode cX1_unary 118 = .ok (.iconst 1, 1) := by decide +kernel
theorem dX1_unary_119 : decode cX1_unary 119 = .ok (.iadd, 1) := by decide +kernel
theorem dX1_unary_120 : decode cX1_unary 120 = .ok (.invokevirtual 133, 3) := by decide +kernel
theorem dX1_unary_123 : decode cX1_unary 123 = .ok (.astore_n 3, 1) := by decide +kernel
theorem dX1_unary_124 : decode cX1_unary 124 = .ok (.aload_n 0, 1) := by decide +kernel
theorem dX1_unary_125 : decode cX1_unary 125 = .ok (.bipush 41, 2) := by decide +kernel
theorem dX1_unary_127 : decode cX1_unary 127 = .ok (.invokevirtual 129, 3) := by decide +kernel
theorem dX1_unary_130 : decode cX1_unary 130 = .ok (.goto 81, 3) := by decide +kernel
theorem dX1_unary_133 : decode cX1_unary 133 = .ok (.aload_n 0, 1) := by decide +kernel
theorem dX1_unary_134 : decode cX1_unary 134 = .ok (.getfield 39, 3) := by decide +kernel
theorem dX1_unary_137 : decode cX1_unary 137 = .ok (.bipush 48, 2) := by decide +kernel
theorem dX1_unary_139 : decode cX1_unary 139 = .ok (.if_icmp .ne 24, 3) := by decide +kernel
theorem dX1_unary_142 : decode cX1_unary 142 = .ok (.aload_n 3, 1) := by decide +kernel
theorem dX1_unary_143 : decode cX1_unary 143 = .ok (.bipush 48, 2) := by decide +kernel
theorem dX1_unary_145 : decode cX1_unary 145 = .ok (.putfield 219, 3) := by decide +kernel
theorem dX1_unary_148 : decode cX1_unary 148 = .ok (.aload_n 3, 1) := by decide +kernel
theorem dX1_unary_149 : decode cX1_unary 149 = .ok (.aload_n 0, 1) := by decide +kernel
theorem dX1_unary_150 : decode cX1_unary 150 = .ok (.getfield 53, 3) := by decide +kernel
theorem dX1_unary_153 : decode cX1_unary 153 = .ok (.putfield 244, 3) := by decide +kernel
theorem dX1_unary_156 : decode cX1_unary 156 = .ok (.aload_n 0, 1) := by decide +kernel
theorem dX1_unary_157 : decode cX1_unary 157 = .ok (.invokevirtual 72, 3) := by decide +kernel
theorem dX1_unary_160 : decode cX1_unary 160 = .ok (.goto 51, 3) := by decide +kernel
theorem dX1_unary_163 : decode cX1_unary 163 = .ok (.aload_n 0, 1) := by decide +kernel
theorem dX1_unary_164 : decode cX1_unary 164 = .ok (.getfield 39, 3) := by decide +kernel
theorem dX1_unary_167 : decode cX1_unary 167 = .ok (.bipush 97, 2) := by decide +kernel
theorem dX1_unary_169 : decode cX1_unary 169 = .ok (.if_icmp .ne 19, 3) := by decide +kernel
theorem dX1_unary_172 : decode cX1_unary 172 = .ok (.aload_n 0, 1) := by decide +kernel
theorem dX1_unary_173 : decode cX1_unary 173 = .ok (.getfield 93, 3) := by decide +kernel
theorem dX1_unary_176 : decode cX1_unary 176 = .ok (.ifCond .eq 17, 3) := by decide +kernel
theorem dX1_unary_179 : decode cX1_unary 179 = .ok (.aload_n 0, 1) := by decide +kernel
theorem dX1_unary_180 : decode cX1_unary 180 = .ok (.getfield 47, 3) := by decide +kernel
theorem dX1_unary_183 : decode cX1_unary 183 = .ok (.bipush 16, 2) := by decide +kernel
theorem dX1_unary_185 : decode cX1_unary 185 = .ok (.if_icmp .lt 8, 3) := by decide +kernel
theorem dX1_unary_188 : decode cX1_unary 188 = .ok (.aload_n 0, 1) := by decide +kernel
theorem dX1_unary_189 : decode cX1_unary 189 = .ok (.invokevirtual 68, 3) := by decide +kernel
theorem dX1_unary_192 : decode cX1_unary 192 = .ok (.athrow, 1) := by decide +kernel
theorem dX1_unary_193 : decode cX1_unary 193 = .ok (.aload_n 3, 1) := by decide +kernel
theorem dX1_unary_194 : decode cX1_unary 194 = .ok (.bipush 97, 2) := by decide +kernel
theorem dX1_unary_196 : decode cX1_unary 196 = .ok (.putfield 219, 3) := by decide +kernel
theorem dX1_unary_199 : decode cX1_unary 199 = .ok (.aload_n 3, 1) := by decide +kernel
theorem dX1_unary_200 : decode cX1_unary 200 = .ok (.aload_n 0, 1) := by decide +kernel
theorem dX1_unary_201 : decode cX1_unary 201 = .ok (.getfield 47, 3) := by decide +kernel
theorem dX1_unary_204 : decode cX1_unary 204 = .ok (.putfield 245, 3) := by decide +kernel
theorem dX1_unary_207 : decode cX1_unary 207 = .ok (.aload_n 0, 1) := by decide +kernel
theorem dX1_unary_208 : decode cX1_unary 208 = .ok (.invokevirtual 72, 3) := by decide +kernel
theorem dX1_unary_211 : decode cX1_unary 211 = .ok (.aload_n 3, 1) := by decide +kernel
theorem dX1_unary_212 : decode cX1_unary 212 = .ok (.areturn, 1) := by decide +kernel
theorem dX1_want_0 : decode cX1_want 0 = .ok (.aload_n 0, 1) := by decide +kernel
theorem dX1_want_1 : decode cX1_want 1 = .ok (.getfield 39, 3) := by decide +kernel
theorem dX1_want_4 : decode cX1_want 4 = .ok (.iload_n 1, 1) := by decide +kernel
theorem dX1_want_5 : decode cX1_want 5 = .ok (.if_icmp .eq 8, 3) := by decide +kernel
theorem dX1_want_8 : decode cX1_want 8 = .ok (.aload_n 0, 1) := by decide +kernel
theorem dX1_want_9 : decode cX1_want 9 = .ok (.invokevirtual 68, 3) := by decide +kernel
theorem dX1_want_12 : decode cX1_want 12 = .ok (.athrow, 1) := by decide +kernel
theorem dX1_want_13 : decode cX1_want 13 = .ok (.aload_n 0, 1) := by decide +kernel
theorem dX1_want_14 : decode cX1_want 14 = .ok (.invokevirtual 72, 3) := by decide +kernel
theorem dX1_want_17 : decode cX1_want 17 = .ok (.return_, 1) := by decide +kernel
theorem dX1_wantWord_0 : decode cX1_wantWord 0 = .ok (.aload_n 0, 1) := by decide +kernel
theorem dX1_wantWord_1 : decode cX1_wantWord 1 = .ok (.aload_n 1, 1) := by decide +kernel
theorem dX1_wantWord_2 : decode cX1_wantWord 2 = .ok (.invokevirtual 155, 3) := by decide +kernel
theorem dX1_wantWord_5 : decode cX1_wantWord 5 = .ok (.ifCond .ne 8, 3) := by decide +kernel
theorem dX1_wantWord_8 : decode cX1_wantWord 8 = .ok (.aload_n 0, 1) := by decide +kernel
theorem dX1_wantWord_9 : decode cX1_wantWord 9 = .ok (.invokevirtual 68, 3) := by decide +kernel
theorem dX1_wantWord_12 : decode cX1_wantWord 12 = .ok (.athrow, 1) := by decide +kernel
theorem dX1_wantWord_13 : decode cX1_wantWord 13 = .ok (.return_, 1) := by decide +kernel
theorem dX1_wrong_0 : decode cX1_wrong 0 = .ok (.aload_n 0, 1) := by decide +kernel
theorem dX1_wrong_1 : decode cX1_wrong 1 = .ok (.aload_n 0, 1) := by decide +kernel
theorem dX1_wrong_2 : decode cX1_wrong 2 = .ok (.getfield 36, 3) := by decide +kernel
theorem dX1_wrong_5 : decode cX1_wrong 5 = .ok (.putfield 22, 3) := by decide +kernel
theorem dX1_wrong_8 : decode cX1_wrong 8 = .ok (.aload_n 0, 1) := by decide +kernel
theorem dX1_wrong_9 : decode cX1_wrong 9 = .ok (.getfield 12, 3) := by decide +kernel
theorem dX1_wrong_12 : decode cX1_wrong 12 = .ok (.areturn, 1) := by decide +kernel
theorem dX2_init_0 : decode cX2_init 0 = .ok (.aload_n 0, 1) := by decide +kernel
theorem dX2_init_1 : decode cX2_init 1 = .ok (.ldc 1, 2) := by decide +kernel
theorem dX2_init_3 : decode cX2_init 3 = .ok (.aconst_null, 1) := by decide +kernel
theorem dX2_init_4 : decode cX2_init 4 = .ok (.iconst 0, 1) := by decide +kernel
theorem dX2_init_5 : decode cX2_init 5 = .ok (.iconst 0, 1) := by decide +kernel
theorem dX2_init_6 : decode cX2_init 6 = .ok (.invokespecial 3, 3) := by decide +kernel
theorem dX2_init_9 : decode cX2_init 9 = .ok (.return_, 1) := by decide +kernel
theorem dX3_clear_0 : decode cX3_clear 0 = .ok (.aload_n 0, 1) := by decide +kernel
theorem dX3_clear_1 : decode cX3_clear 1 = .ok (.getfield 9, 3) := by decide +kernel
theorem dX3_clear_4 : decode cX3_clear 4 = .ok (.lconst 0, 1) := by decide +kernel
theorem dX3_clear_5 : decode cX3_clear 5 = .ok (.invokestatic 32, 3) := by decide +kernel
theorem dX3_clear_8 : decode cX3_clear 8 = .ok (.aload_n 0, 1) := by decide +kernel
theorem dX3_clear_9 : decode cX3_clear 9 = .ok (.getfield 15, 3) := by decide +kernel
theorem dX3_clear_12 : decode cX3_clear 12 = .ok (.iconst 0, 1) := by decide +kernel
theorem dX3_clear_13 : decode cX3_clear 13 = .ok (.invokestatic 38, 3) := by decide +kernel
theorem dX3_clear_16 : decode cX3_clear 16 = .ok (.aload_n 0, 1) := by decide +kernel
theorem dX3_clear_17 : decode cX3_clear 17 = .ok (.iconst 0, 1) := by decide +kernel
theorem dX3_clear_18 : decode cX3_clear 18 = .ok (.putfield 41, 3) := by decide +kernel
theorem dX3_clear_21 : decode cX3_clear 21 = .ok (.return_, 1) := by decide +kernel
