/-! decode rows (by a program) -/
set_option maxRecDepth 100000
theorem dX13_isSign_0 : decode cX13_isSign 0 = .ok (.aload_n 0, 1) := by decide +kernel
theorem dX13_isSign_1 : decode cX13_isSign 1 = .ok (.getfield 209, 3) := by decide +kernel
theorem dX13_isSign_4 : decode cX13_isSign 4 = .ok (.iconst 4, 1) := by decide +kernel
theorem dX13_isSign_5 : decode cX13_isSign 5 = .ok (.if_icmp .ne 15, 3) := by decide +kernel
theorem dX13_isSign_8 : decode cX13_isSign 8 = .ok (.aload_n 0, 1) := by decide +kernel
theorem dX13_isSign_9 : decode cX13_isSign 9 = .ok (.getfield 234, 3) := by decide +kernel
theorem dX13_isSign_12 : decode cX13_isSign 12 = .ok (.iload_n 1, 1) := by decide +kernel
theorem dX13_isSign_13 : decode cX13_isSign 13 = .ok (.if_icmp .ne 7, 3) := by decide +kernel
theorem dX13_isSign_16 : decode cX13_isSign 16 = .ok (.iconst 1, 1) := by decide +kernel
theorem dX13_isSign_17 : decode cX13_isSign 17 = .ok (.goto 4, 3) := by decide +kernel
theorem dX13_isSign_20 : decode cX13_isSign 20 = .ok (.iconst 0, 1) := by decide +kernel
theorem dX13_isSign_21 : decode cX13_isSign 21 = .ok (.ireturn, 1) := by decide +kernel
theorem dX13_isSignByte_0 : decode cX13_isSignByte 0 = .ok (.iload_n 0, 1) := by decide +kernel
theorem dX13_isSignByte_1 : decode cX13_isSignByte 1 = .ok (.lookupswitch 117 #[(35, 115), (37, 115), (40, 115), (41, 115), (42, 115), (43, 115), (45, 115), (47, 115), (59, 115), (60, 115), (61, 115), (123, 115), (125, 115)], 115) := by decide +kernel
theorem dX13_isSignByte_116 : decode cX13_isSignByte 116 = .ok (.iconst 1, 1) := by decide +kernel
theorem dX13_isSignByte_117 : decode cX13_isSignByte 117 = .ok (.ireturn, 1) := by decide +kernel
theorem dX13_isSignByte_118 : decode cX13_isSignByte 118 = .ok (.iconst 0, 1) := by decide +kernel
theorem dX13_isSignByte_119 : decode cX13_isSignByte 119 = .ok (.ireturn, 1) := by decide +kernel
theorem dX13_isSmall_0 : decode cX13_isSmall 0 = .ok (.iload_n 0, 1) := by decide +kernel
theorem dX13_isSmall_1 : decode cX13_isSmall 1 = .ok (.bipush 97, 2) := by decide +kernel
theorem dX13_isSmall_3 : decode cX13_isSmall 3 = .ok (.if_icmp .lt 13, 3) := by decide +kernel
theorem dX13_isSmall_6 : decode cX13_isSmall 6 = .ok (.iload_n 0, 1) := by decide +kernel
theorem dX13_isSmall_7 : decode cX13_isSmall 7 = .ok (.bipush 122, 2) := by decide +kernel
theorem dX13_isSmall_9 : decode cX13_isSmall 9 = .ok (.if_icmp .gt 7, 3) := by decide +kernel
theorem dX13_isSmall_12 : decode cX13_isSmall 12 = .ok (.iconst 1, 1) := by decide +kernel
theorem dX13_isSmall_13 : decode cX13_isSmall 13 = .ok (.goto 4, 3) := by decide +kernel
theorem dX13_isSmall_16 : decode cX13_isSmall 16 = .ok (.iconst 0, 1) := by decide +kernel
theorem dX13_isSmall_17 : decode cX13_isSmall 17 = .ok (.ireturn, 1) := by decide +kernel
theorem dX13_isWell_0 : decode cX13_isWell 0 = .ok (.iconst 0, 1) := by decide +kernel
theorem dX13_isWell_1 : decode cX13_isWell 1 = .ok (.istore_n 1, 1) := by decide +kernel
theorem dX13_isWell_2 : decode cX13_isWell 2 = .ok (.iload_n 1, 1) := by decide +kernel
theorem dX13_isWell_3 : decode cX13_isWell 3 = .ok (.bipush 16, 2) := by decide +kernel
theorem dX13_isWell_5 : decode cX13_isWell 5 = .ok (.if_icmp .ge 50, 3) := by decide +kernel
theorem dX13_isWell_8 : decode cX13_isWell 8 = .ok (.aload_n 0, 1) := by decide +kernel
theorem dX13_isWell_9 : decode cX13_isWell 9 = .ok (.getfield 152, 3) := by decide +kernel
theorem dX13_isWell_12 : decode cX13_isWell 12 = .ok (.iload_n 1, 1) := by decide +kernel
theorem dX13_isWell_13 : decode cX13_isWell 13 = .ok (.aload_n 0, 1) := by decide +kernel
theorem dX13_isWell_14 : decode cX13_isWell 14 = .ok (.getfield 322, 3) := by decide +kernel
theorem dX13_isWell_17 : decode cX13_isWell 17 = .ok (.iload_n 1, 1) := by decide +kernel
theorem dX13_isWell_18 : decode cX13_isWell 18 = .ok (.ishr, 1) := by decide +kernel
theorem dX13_isWell_19 : decode cX13_isWell 19 = .ok (.iconst 1, 1) := by decide +kernel
theorem dX13_isWell_20 : decode cX13_isWell 20 = .ok (.iand, 1) := by decide +kernel
theorem dX13_isWell_21 : decode cX13_isWell 21 = .ok (.iconst 1, 1) := by decide +kernel
theorem dX13_isWell_22 : decode cX13_isWell 22 = .ok (.if_icmp .ne 12, 3) := by decide +kernel
theorem dX13_isWell_25 : decode cX13_isWell 25 = .ok (.aload_n 0, 1) := by decide +kernel
theorem dX13_isWell_26 : decode cX13_isWell 26 = .ok (.getfield 128, 3) := by decide +kernel
theorem dX13_isWell_29 : decode cX13_isWell 29 = .ok (.iload_n 1, 1) := by decide +kernel
theorem dX13_isWell_30 : decode cX13_isWell 30 = .ok (.laload, 1) := by decide +kernel
theorem dX13_isWell_31 : decode cX13_isWell 31 = .ok (.goto 17, 3) := by decide +kernel
theorem dX13_isWell_34 : decode cX13_isWell 34 = .ok (.aload_n 0, 1) := by decide +kernel
theorem dX13_isWell_35 : decode cX13_isWell 35 = .ok (.getfield 83, 3) := by decide +kernel
theorem dX13_isWell_38 : decode cX13_isWell 38 = .ok (.bipush 16, 2) := by decide +kernel
theorem dX13_isWell_40 : decode cX13_isWell 40 = .ok (.aload_n 0, 1) := by decide +kernel
theorem dX13_isWell_41 : decode cX13_isWell 41 = .ok (.getfield 319, 3) := by decide +kernel
theorem dX13_isWell_44 : decode cX13_isWell 44 = .ok (.imul, 1) := by decide +kernel
theorem dX13_isWell_45 : decode cX13_isWell 45 = .ok (.iload_n 1, 1) := by decide +kernel
theorem dX13_isWell_46 : decode cX13_isWell 46 = .ok (.iadd, 1) := by decide +kernel
theorem dX13_isWell_47 : decode cX13_isWell 47 = .ok (.laload, 1) := by decide +kernel
theorem dX13_isWell_48 : decode cX13_isWell 48 = .ok (.lastore, 1) := by decide +kernel
theorem dX13_isWell_49 : decode cX13_isWell 49 = .ok (.iinc 1 1, 3) := by decide +kernel
theorem dX13_isWell_52 : decode cX13_isWell 52 = .ok (.goto (-50), 3) := by decide +kernel
theorem dX13_isWell_55 : decode cX13_isWell 55 = .ok (.aload_n 0, 1) := by decide +kernel
theorem dX13_isWell_56 : decode cX13_isWell 56 = .ok (.invokevirtual 383, 3) := by decide +kernel
theorem dX13_isWell_59 : decode cX13_isWell 59 = .ok (.istore_n 1, 1) := by decide +kernel
theorem dX13_isWell_60 : decode cX13_isWell 60 = .ok (.iconst 0, 1) := by decide +kernel
theorem dX13_isWell_61 : decode cX13_isWell 61 = .ok (.istore_n 2, 1) := by decide +kernel
theorem dX13_isWell_62 : decode cX13_isWell 62 = .ok (.iload_n 2, 1) := by decide +kernel
theorem dX13_isWell_63 : decode cX13_isWell 63 = .ok (.aload_n 0, 1) := by decide +kernel
theorem dX13_isWell_64 : decode cX13_isWell 64 = .ok (.getfield 348, 3) := by decide +kernel
theorem dX13_isWell_67 : decode cX13_isWell 67 = .ok (.if_icmp .ge 24, 3) := by decide +kernel
theorem dX13_isWell_70 : decode cX13_isWell 70 = .ok (.iload_n 1, 1) := by decide +kernel
theorem dX13_isWell_71 : decode cX13_isWell 71 = .ok (.ifCond .eq 20, 3) := by decide +kernel
theorem dX13_isWell_74 : decode cX13_isWell 74 = .ok (.aload_n 0, 1) := by decide +kernel
theorem dX13_isWell_75 : decode cX13_isWell 75 = .ok (.aload_n 0, 1) := by decide +kernel
theorem dX13_isWell_76 : decode cX13_isWell 76 = .ok (.getfield 134, 3) := by decide +kernel
theorem dX13_isWell_79 : decode cX13_isWell 79 = .ok (.iload_n 2, 1) := by decide +kernel
theorem dX13_isWell_80 : decode cX13_isWell 80 = .ok (.iaload, 1) := by decide +kernel
theorem dX13_isWell_81 : decode cX13_isWell 81 = .ok (.invokevirtual 380, 3) := by decide +kernel
theorem dX13_isWell_84 : decode cX13_isWell 84 = .ok (.istore_n 1, 1) := by decide +kernel
theorem dX13_isWell_85 : decode cX13_isWell 85 = .ok (.iinc 2 1, 3) := by decide +kernel
theorem dX13_isWell_88 : decode cX13_isWell 88 = .ok (.goto (-26), 3) := by decide +kernel
theorem dX13_isWell_91 : decode cX13_isWell 91 = .ok (.iload_n 1, 1) := by decide +kernel
theorem dX13_isWell_92 : decode cX13_isWell 92 = .ok (.ifCond .eq 26, 3) := by decide +kernel
theorem dX13_isWell_95 : decode cX13_isWell 95 = .ok (.aload_n 0, 1) := by decide +kernel
theorem dX13_isWell_96 : decode cX13_isWell 96 = .ok (.getfield 89, 3) := by decide +kernel
theorem dX13_isWell_99 : decode cX13_isWell 99 = .ok (.aload_n 0, 1) := by decide +kernel
theorem dX13_isWell_100 : decode cX13_isWell 100 = .ok (.getfield 319, 3) := by decide +kernel
theorem dX13_isWell_103 : decode cX13_isWell 103 = .ok (.iaload, 1) := by decide +kernel
theorem dX13_isWell_104 : decode cX13_isWell 104 = .ok (.aload_n 0, 1) := by decide +kernel
theorem dX13_isWell_105 : decode cX13_isWell 105 = .ok (.getfield 348, 3) := by decide +kernel
theorem dX13_isWell_108 : decode cX13_isWell 108 = .ok (.iadd, 1) := by decide +kernel
theorem dX13_isWell_109 : decode cX13_isWell 109 = .ok (.bipush 32, 2) := by decide +kernel
theorem dX13_isWell_111 : decode cX13_isWell 111 = .ok (.if_icmp .gt 7, 3) := by decide +kernel
theorem dX13_isWell_114 : decode cX13_isWell 114 = .ok (.iconst 1, 1) := by decide +kernel
theorem dX13_isWell_115 : decode cX13_isWell 115 = .ok (.goto 4, 3) := by decide +kernel
theorem dX13_isWell_118 : decode cX13_isWell 118 = .ok (.iconst 0, 1) := by decide +kernel
theorem dX13_isWell_119 : decode cX13_isWell 119 = .ok (.ireturn, 1) := by decide +kernel
theorem dX13_keep_0 : decode cX13_keep 0 = .ok (.aload_n 0, 1) := by decide +kernel
theorem dX13_keep_1 : decode cX13_keep 1 = .ok (.getfield 137, 3) := by decide +kernel
theorem dX13_keep_4 : decode cX13_keep 4 = .ok (.iload_n 1, 1) := by decide +kernel
theorem dX13_keep_5 : decode cX13_keep 5 = .ok (.aload_n 0, 1) := by decide +kernel
theorem dX13_keep_6 : decode cX13_keep 6 = .ok (.getfield 322, 3) := by decide +kernel
theorem dX13_keep_9 : decode cX13_keep 9 = .ok (.iastore, 1) := by decide +kernel
theorem dX13_keep_10 : decode cX13_keep 10 = .ok (.aload_n 0, 1) := by decide +kernel
theorem dX13_keep_11 : decode cX13_keep 11 = .ok (.getfield 146, 3) := by decide +kernel
theorem dX13_keep_14 : decode cX13_keep 14 = .ok (.iload_n 1, 1) := by decide +kernel
theorem dX13_keep_15 : decode cX13_keep 15 = .ok (.aload_n 0, 1) := by decide +kernel
theorem dX13_keep_16 : decode cX13_keep 16 = .ok (.getfield 348, 3) := by decide +kernel
theorem dX13_keep_19 : decode cX13_keep 19 = .ok (.iastore, 1) := by decide +kernel
theorem dX13_keep_20 : decode cX13_keep 20 = .ok (.iconst 0, 1) := by decide +kernel
theorem dX13_keep_21 : decode cX13_keep 21 = .ok (.istore_n 2, 1) := by decide +kernel
theorem dX13_keep_22 : decode cX13_keep 22 = .ok (.iload_n 2, 1) := by decide +kernel
theorem dX13_keep_23 : decode cX13_keep 23 = .ok (.bipush 16, 2) := by decide +kernel
theorem dX13_keep_25 : decode cX13_keep 25 = .ok (.if_icmp .ge 26, 3) := by decide +kernel
theorem dX13_keep_28 : decode cX13_keep 28 = .ok (.aload_n 0, 1) := by decide +kernel
theorem dX13_keep_29 : decode cX13_keep 29 = .ok (.getfield 140, 3) := by decide +kernel
theorem dX13_keep_32 : decode cX13_keep 32 = .ok (.bipush 16, 2) := by decide +kernel
theorem dX13_keep_34 : decode cX13_keep 34 = .ok (.iload_n 1, 1) := by decide +kernel
theorem dX13_keep_35 : decode cX13_keep 35 = .ok (.imul, 1) := by decide +kernel
theorem dX13_keep_36 : decode cX13_keep 36 = .ok (.iload_n 2, 1) := by decide +kernel
theorem dX13_keep_37 : decode cX13_keep 37 = .ok (.iadd, 1) := by decide +kernel
theorem dX13_keep_38 : decode cX13_keep 38 = .ok (.aload_n 0, 1) := by decide +kernel
theorem dX13_keep_39 : decode cX13_keep 39 = .ok (.getfield 128, 3) := by decide +kernel
theorem dX13_keep_42 : decode cX13_keep 42 = .ok (.iload_n 2, 1) := by decide +kernel
theorem dX13_keep_43 : decode cX13_keep 43 = .ok (.laload, 1) := by decide +kernel
theorem dX13_keep_44 : decode cX13_keep 44 = .ok (.lastore, 1) := by decide +kernel
theorem dX13_keep_45 : decode cX13_keep 45 = .ok (.iinc 2 1, 3) := by decide +kernel
theorem dX13_keep_48 : decode cX13_keep 48 = .ok (.goto (-26), 3) := by decide +kernel
theorem dX13_keep_51 : decode cX13_keep 51 = .ok (.iconst 0, 1) := by decide +kernel
theorem dX13_keep_52 : decode cX13_keep 52 = .ok (.istore_n 2, 1) := by decide +kernel
theorem dX13_keep_53 : decode cX13_keep 53 = .ok (.iload_n 2, 1) := by decide +kernel
theorem dX13_keep_54 : decode cX13_keep 54 = .ok (.bipush 10, 2) := by decide +kernel
theorem dX13_keep_56 : decode cX13_keep 56 = .ok (.if_icmp .ge 26, 3) := by decide +kernel
theorem dX13_keep_59 : decode cX13_keep 59 = .ok (.aload_n 0, 1) := by decide +kernel
theorem dX13_keep_60 : decode cX13_keep 60 = .ok (.getfield 143, 3) := by decide +kernel
theorem dX13_keep_63 : decode cX13_keep 63 = .ok (.bipush 10, 2) := by decide +kernel
theorem dX13_keep_65 : decode cX13_keep 65 = .ok (.iload_n 1, 1) := by decide +kernel
theorem dX13_keep_66 : decode cX13_keep 66 = .ok (.imul, 1) := by decide +kernel
theorem dX13_keep_67 : decode cX13_keep 67 = .ok (.iload_n 2, 1) := by decide +kernel
theorem dX13_keep_68 : decode cX13_keep 68 = .ok (.iadd, 1) := by decide +kernel
theorem dX13_keep_69 : decode cX13_keep 69 = .ok (.aload_n 0, 1) := by decide +kernel
theorem dX13_keep_70 : decode cX13_keep 70 = .ok (.getfield 131, 3) := by decide +kernel
theorem dX13_keep_73 : decode cX13_keep 73 = .ok (.iload_n 2, 1) := by decide +kernel
theorem dX13_keep_74 : decode cX13_keep 74 = .ok (.laload, 1) := by decide +kernel
theorem dX13_keep_75 : decode cX13_keep 75 = .ok (.lastore, 1) := by decide +kernel
theorem dX13_keep_76 : decode cX13_keep 76 = .ok (.iinc 2 1, 3) := by decide +kernel
theorem dX13_keep_79 : decode cX13_keep 79 = .ok (.goto (-26), 3) := by decide +kernel
theorem dX13_keep_82 : decode cX13_keep 82 = .ok (.return_, 1) := by decide +kernel
theorem dX13_keepRead_0 : decode cX13_keepRead 0 = .ok (.aload_n 0, 1) := by decide +kernel
theorem dX13_keepRead_1 : decode cX13_keepRead 1 = .ok (.getfield 113, 3) := by decide +kernel
theorem dX13_keepRead_4 : decode cX13_keepRead 4 = .ok (.iload_n 1, 1) := by decide +kernel
theorem dX13_keepRead_5 : decode cX13_keepRead 5 = .ok (.aload_n 0, 1) := by decide +kernel
theorem dX13_keepRead_6 : decode cX13_keepRead 6 = .ok (.getfield 316, 3) := by decide +kernel
theorem dX13_keepRead_9 : decode cX13_keepRead 9 = .ok (.iastore, 1) := by decide +kernel
theorem dX13_keepRead_10 : decode cX13_keepRead 10 = .ok (.iconst 0, 1) := by decide +kernel
theorem dX13_keepRead_11 : decode cX13_keepRead 11 = .ok (.istore_n 2, 1) := by decide +kernel
theorem dX13_keepRead_12 : decode cX13_keepRead 12 = .ok (.iload_n 2, 1) := by decide +kernel
theorem dX13_keepRead_13 : decode cX13_keepRead 13 = .ok (.bipush 16, 2) := by decide +kernel
theorem dX13_keepRead_15 : decode cX13_keepRead 15 = .ok (.if_icmp .ge 43, 3) := by decide +kernel
theorem dX13_keepRead_18 : decode cX13_keepRead 18 = .ok (.aload_n 0, 1) := by decide +kernel
theorem dX13_keepRead_19 : decode cX13_keepRead 19 = .ok (.getfield 116, 3) := by decide +kernel
theorem dX13_keepRead_22 : decode cX13_keepRead 22 = .ok (.bipush 16, 2) := by decide +kernel
theorem dX13_keepRead_24 : decode cX13_keepRead 24 = .ok (.iload_n 1, 1) := by decide +kernel
theorem dX13_keepRead_25 : decode cX13_keepRead 25 = .ok (.imul, 1) := by decide +kernel
theorem dX13_keepRead_26 : decode cX13_keepRead 26 = .ok (.iload_n 2, 1) := by decide +kernel
theorem dX13_keepRead_27 : decode cX13_keepRead 27 = .ok (.iadd, 1) := by decide +kernel
theorem dX13_keepRead_28 : decode cX13_keepRead 28 = .ok (.aload_n 0, 1) := by decide +kernel
theorem dX13_keepRead_29 : decode cX13_keepRead 29 = .ok (.getfield 122, 3) := by decide +kernel
theorem dX13_keepRead_32 : decode cX13_keepRead 32 = .ok (.iload_n 2, 1) := by decide +kernel
theorem dX13_keepRead_33 : decode cX13_keepRead 33 = .ok (.laload, 1) := by decide +kernel
theorem dX13_keepRead_34 : decode cX13_keepRead 34 = .ok (.lastore, 1) := by decide +kernel
theorem dX13_keepRead_35 : decode cX13_keepRead 35 = .ok (.aload_n 0, 1) := by decide +kernel
theorem dX13_keepRead_36 : decode cX13_keepRead 36 = .ok (.getfield 119, 3) := by decide +kernel
theorem dX13_keepRead_39 : decode cX13_keepRead 39 = .ok (.bipush 16, 2) := by decide +kernel
theorem dX13_keepRead_41 : decode cX13_keepRead 41 = .ok (.iload_n 1, 1) := by decide +kernel
theorem dX13_keepRead_42 : decode cX13_keepRead 42 = .ok (.imul, 1) := by decide +kernel
theorem dX13_keepRead_43 : decode cX13_keepRead 43 = .ok (.iload_n 2, 1) := by decide +kernel
theorem dX13_keepRead_44 : decode cX13_keepRead 44 = .ok (.iadd, 1) := by decide +kernel
theorem dX13_keepRead_45 : decode cX13_keepRead 45 = .ok (.aload_n 0, 1) := by decide +kernel
theorem dX13_keepRead_46 : decode cX13_keepRead 46 = .ok (.getfield 125, 3) := by decide +kernel
theorem dX13_keepRead_49 : decode cX13_keepRead 49 = .ok (.iload_n 2, 1) := by decide +kernel
theorem dX13_keepRead_50 : decode cX13_keepRead 50 = .ok (.iaload, 1) := by decide +kernel
theorem dX13_keepRead_51 : decode cX13_keepRead 51 = .ok (.iastore, 1) := by decide +kernel
theorem dX13_keepRead_52 : decode cX13_keepRead 52 = .ok (.iinc 2 1, 3) := by decide +kernel
theorem dX13_keepRead_55 : decode cX13_keepRead 55 = .ok (.goto (-43), 3) := by decide +kernel
theorem dX13_keepRead_58 : decode cX13_keepRead 58 = .ok (.return_, 1) := by decide +kernel
theorem dX13_misplaced_0 : decode cX13_misplaced 0 = .ok (.aload_n 0, 1) := by decide +kernel
theorem dX13_misplaced_1 : decode cX13_misplaced 1 = .ok (.getfield 240, 3) := by decide +kernel
theorem dX13_misplaced_4 : decode cX13_misplaced 4 = .ok (.ifCond .ne 16, 3) := by decide +kernel
theorem dX13_misplaced_7 : decode cX13_misplaced 7 = .ok (.aload_n 0, 1) := by decide +kernel
theorem dX13_misplaced_8 : decode cX13_misplaced 8 = .ok (.iconst 1, 1) := by decide +kernel
theorem dX13_misplaced_9 : decode cX13_misplaced 9 = .ok (.putfield 240, 3) := by decide +kernel
theorem dX13_misplaced_12 : decode cX13_misplaced 12 = .ok (.aload_n 0, 1) := by decide +kernel
theorem dX13_misplaced_13 : decode cX13_misplaced 13 = .ok (.aload_n 0, 1) := by decide +kernel
theorem dX13_misplaced_14 : decode cX13_misplaced 14 = .ok (.getfield 206, 3) := by decide +kernel
theorem dX13_misplaced_17 : decode cX13_misplaced 17 = .ok (.putfield 13, 3) := by decide +kernel
theorem dX13_misplaced_20 : decode cX13_misplaced 20 = .ok (.return_, 1) := by decide +kernel
theorem dX13_newStatement_0 : decode cX13_newStatement 0 = .ok (.bipush 40, 2) := by decide +kernel
theorem dX13_newStatement_2 : decode cX13_newStatement 2 = .ok (.aload_n 0, 1) := by decide +kernel
theorem dX13_newStatement_3 : decode cX13_newStatement 3 = .ok (.getfield 253, 3) := by decide +kernel
theorem dX13_newStatement_6 : decode cX13_newStatement 6 = .ok (.imul, 1) := by decide +kernel
theorem dX13_newStatement_7 : decode cX13_newStatement 7 = .ok (.aload_n 0, 1) := by decide +kernel
theorem dX13_newStatement_8 : decode cX13_newStatement 8 = .ok (.getfield 17, 3) := by decide +kernel
theorem dX13_newStatement_11 : decode cX13_newStatement 11 = .ok (.aload_n 0, 1) := by decide +kernel
theorem dX13_newStatement_12 : decode cX13_newStatement 12 = .ok (.getfield 253, 3) := by decide +kernel
theorem dX13_newStatement_15 : decode cX13_newStatement 15 = .ok (.iaload, 1) := by decide +kernel
theorem dX13_newStatement_16 : decode cX13_newStatement 16 = .ok (.iadd, 1) := by decide +kernel
theorem dX13_newStatement_17 : decode cX13_newStatement 17 = .ok (.istore_n 1, 1) := by decide +kernel
theorem dX13_newStatement_18 : decode cX13_newStatement 18 = .ok (.aload_n 0, 1) := by decide +kernel
theorem dX13_newStatement_19 : decode cX13_newStatement 19 = .ok (.getfield 17, 3) := by decide +kernel
theorem dX13_newStatement_22 : decode cX13_newStatement 22 = .ok (.aload_n 0, 1) := by decide +kernel
theorem dX13_newStatement_23 : decode cX13_newStatement 23 = .ok (.getfield 253, 3) := by decide +kernel
theorem dX13_newStatement_26 : decode cX13_newStatement 26 = .ok (.dup2, 1) := by decide +kernel
theorem dX13_newStatement_27 : decode cX13_newStatement 27 = .ok (.iaload, 1) := by decide +kernel
theorem dX13_newStatement_28 : decode cX13_newStatement 28 = .ok (.iconst 1, 1) := by decide +kernel
theorem dX13_newStatement_29 : decode cX13_newStatement 29 = .ok (.iadd, 1) := by decide +kernel
theorem dX13_newStatement_30 : decode cX13_newStatement 30 = .ok (.iastore, 1) := by decide +kernel
theorem dX13_newStatement_31 : decode cX13_newStatement 31 = .ok (.aload_n 0, 1) := by decide +kernel
theorem dX13_newStatement_32 : decode cX13_newStatement 32 = .ok (.getfield 36, 3) := by decide +kernel
theorem dX13_newStatement_35 : decode cX13_newStatement 35 = .ok (.iload_n 1, 1) := by decide +kernel
theorem dX13_newStatement_36 : decode cX13_newStatement 36 = .ok (.iconst (-1), 1) := by decide +kernel
theorem dX13_newStatement_37 : decode cX13_newStatement 37 = .ok (.iastore, 1) := by decide +kernel
theorem dX13_newStatement_38 : decode cX13_newStatement 38 = .ok (.aload_n 0, 1) := by decide +kernel
theorem dX13_newStatement_39 : decode cX13_newStatement 39 = .ok (.getfield 39, 3) := by decide +kernel
theorem dX13_newStatement_42 : decode cX13_newStatement 42 = .ok (.iload_n 1, 1) := by decide +kernel
theorem dX13_newStatement_43 : decode cX13_newStatement 43 = .ok (.aload_n 0, 1) := by decide +kernel
theorem dX13_newStatement_44 : decode cX13_newStatement 44 = .ok (.getfield 74, 3) := by decide +kernel
theorem dX13_newStatement_47 : decode cX13_newStatement 47 = .ok (.aload_n 0, 1) := by decide +kernel
theorem dX13_newStatement_48 : decode cX13_newStatement 48 = .ok (.getfield 283, 3) := by decide +kernel
theorem dX13_newStatement_51 : decode cX13_newStatement 51 = .ok (.iaload, 1) := by decide +kernel
theorem dX13_newStatement_52 : decode cX13_newStatement 52 = .ok (.iastore, 1) := by decide +kernel
theorem dX13_newStatement_53 : decode cX13_newStatement 53 = .ok (.aload_n 0, 1) := by decide +kernel
theorem dX13_newStatement_54 : decode cX13_newStatement 54 = .ok (.getfield 42, 3) := by decide +kernel
theorem dX13_newStatement_57 : decode cX13_newStatement 57 = .ok (.iload_n 1, 1) := by decide +kernel
theorem dX13_newStatement_58 : decode cX13_newStatement 58 = .ok (.aload_n 0, 1) := by decide +kernel
theorem dX13_newStatement_59 : decode cX13_newStatement 59 = .ok (.getfield 77, 3) := by decide +kernel
theorem dX13_newStatement_62 : decode cX13_newStatement 62 = .ok (.aload_n 0, 1) := by decide +kernel
theorem dX13_newStatement_63 : decode cX13_newStatement 63 = .ok (.getfield 283, 3) := by decide +kernel
theorem dX13_newStatement_66 : decode cX13_newStatement 66 = .ok (.iaload, 1) := by decide +kernel
theorem dX13_newStatement_67 : decode cX13_newStatement 67 = .ok (.iastore, 1) := by decide +kernel
theorem dX13_newStatement_68 : decode cX13_newStatement 68 = .ok (.aload_n 0, 1) := by decide +kernel
theorem dX13_newStatement_69 : decode cX13_newStatement 69 = .ok (.getfield 45, 3) := by decide +kernel
theorem dX13_newStatement_72 : decode cX13_newStatement 72 = .ok (.iload_n 1, 1) := by decide +kernel
theorem dX13_newStatement_73 : decode cX13_newStatement 73 = .ok (.iconst (-1), 1) := by decide +kernel
theorem dX13_newStatement_74 : decode cX13_newStatement 74 = .ok (.iastore, 1) := by decide +kernel
theorem dX13_newStatement_75 : decode cX13_newStatement 75 = .ok (.aload_n 0, 1) := by decide +kernel
theorem dX13_newStatement_76 : decode cX13_newStatement 76 = .ok (.getfield 48, 3) := by decide +kernel
theorem dX13_newStatement_79 : decode cX13_newStatement 79 = .ok (.iload_n 1, 1) := by decide +kernel
theorem dX13_newStatement_80 : decode cX13_newStatement 80 = .ok (.iconst (-1), 1) := by decide +kernel
theorem dX13_newStatement_81 : decode cX13_newStatement 81 = .ok (.iastore, 1) := by decide +kernel
theorem dX13_newStatement_82 : decode cX13_newStatement 82 = .ok (.aload_n 0, 1) := by decide +kernel
theorem dX13_newStatement_83 : decode cX13_newStatement 83 = .ok (.getfield 51, 3) := by decide +kernel
theorem dX13_newStatement_86 : decode cX13_newStatement 86 = .ok (.iload_n 1, 1) := by decide +kernel
theorem dX13_newStatement_87 : decode cX13_newStatement 87 = .ok (.iconst (-1), 1) := by decide +kernel
theorem dX13_newStatement_88 : decode cX13_newStatement 88 = .ok (.iastore, 1) := by decide +kernel
theorem dX13_newStatement_89 : decode cX13_newStatement 89 = .ok (.aload_n 0, 1) := by decide +kernel
theorem dX13_newStatement_90 : decode cX13_newStatement 90 = .ok (.getfield 54, 3) := by decide +kernel
theorem dX13_newStatement_93 : decode cX13_newStatement 93 = .ok (.iload_n 1, 1) := by decide +kernel
theorem dX13_newStatement_94 : decode cX13_newStatement 94 = .ok (.iconst (-1), 1) := by decide +kernel
theorem dX13_newStatement_95 : decode cX13_newStatement 95 = .ok (.iastore, 1) := by decide +kernel
theorem dX13_newStatement_96 : decode cX13_newStatement 96 = .ok (.aload_n 0, 1) := by decide +kernel
theorem dX13_newStatement_97 : decode cX13_newStatement 97 = .ok (.getfield 80, 3) := by decide +kernel
theorem dX13_newStatement_100 : decode cX13_newStatement 100 = .ok (.aload_n 0, 1) := by decide +kernel
theorem dX13_newStatement_101 : decode cX13_newStatement 101 = .ok (.getfield 283, 3) := by decide +kernel
theorem dX13_newStatement_104 : decode cX13_newStatement 104 = .ok (.iaload, 1) := by decide +kernel
theorem dX13_newStatement_105 : decode cX13_newStatement 105 = .ok (.istore_n 2, 1) := by decide +kernel
theorem dX13_newStatement_106 : decode cX13_newStatement 106 = .ok (.aload_n 0, 1) := by decide +kernel
theorem dX13_newStatement_107 : decode cX13_newStatement 107 = .ok (.getfield 74, 3) := by decide +kernel
theorem dX13_newStatement_110 : decode cX13_newStatement 110 = .ok (.aload_n 0, 1) := by decide +kernel
theorem dX13_newStatement_111 : decode cX13_newStatement 111 = .ok (.getfield 283, 3) := by decide +kernel
theorem dX13_newStatement_114 : decode cX13_newStatement 114 = .ok (.iaload, 1) := by decide +kernel
theorem dX13_newStatement_115 : decode cX13_newStatement 115 = .ok (.istore_n 3, 1) := by decide +kernel
theorem dX13_newStatement_116 : decode cX13_newStatement 116 = .ok (.iload_n 2, 1) := by decide +kernel
theorem dX13_newStatement_117 : decode cX13_newStatement 117 = .ok (.ifCond .lt 13, 3) := by decide +kernel
theorem dX13_newStatement_120 : decode cX13_newStatement 120 = .ok (.aload_n 0, 1) := by decide +kernel
theorem dX13_newStatement_121 : decode cX13_newStatement 121 = .ok (.getfield 36, 3) := by decide +kernel
theorem dX13_newStatement_124 : decode cX13_newStatement 124 = .ok (.iload_n 2, 1) := by decide +kernel
theorem dX13_newStatement_125 : decode cX13_newStatement 125 = .ok (.iload_n 1, 1) := by decide +kernel
theorem dX13_newStatement_126 : decode cX13_newStatement 126 = .ok (.iastore, 1) := by decide +kernel
theorem dX13_newStatement_127 : decode cX13_newStatement 127 = .ok (.goto 49, 3) := by decide +kernel
theorem dX13_newStatement_130 : decode cX13_newStatement 130 = .ok (.iload_n 3, 1) := by decide +kernel
theorem dX13_newStatement_131 : decode cX13_newStatement 131 = .ok (.ifCond .ge 16, 3) := by decide +kernel
theorem dX13_newStatement_134 : decode cX13_newStatement 134 = .ok (.aload_n 0, 1) := by decide +kernel
theorem dX13_newStatement_135 : decode cX13_newStatement 135 = .ok (.getfield 27, 3) := by decide +kernel
theorem dX13_newStatement_138 : decode cX13_newStatement 138 = .ok (.aload_n 0, 1) := by decide +kernel
theorem dX13_newStatement_139 : decode cX13_newStatement 139 = .ok (.getfield 253, 3) := by decide +kernel
theorem dX13_newStatement_142 : decode cX13_newStatement 142 = .ok (.iload_n 1, 1) := by decide +kernel
theorem dX13_newStatement_143 : decode cX13_newStatement 143 = .ok (.iastore, 1) := by decide +kernel
theorem dX13_newStatement_144 : decode cX13_newStatement 144 = .ok (.goto 32, 3) := by decide +kernel
theorem dX13_newStatement_147 : decode cX13_newStatement 147 = .ok (.aload_n 0, 1) := by decide +kernel
theorem dX13_newStatement_148 : decode cX13_newStatement 148 = .ok (.getfield 77, 3) := by decide +kernel
theorem dX13_newStatement_151 : decode cX13_newStatement 151 = .ok (.aload_n 0, 1) := by decide +kernel
theorem dX13_newStatement_152 : decode cX13_newStatement 152 = .ok (.getfield 283, 3) := by decide +kernel
theorem dX13_newStatement_155 : decode cX13_newStatement 155 = .ok (.iaload, 1) := by decide +kernel
theorem dX13_newStatement_156 : decode cX13_newStatement 156 = .ok (.ifCond .ne 13, 3) := by decide +kernel
theorem dX13_newStatement_159 : decode cX13_newStatement 159 = .ok (.aload_n 0, 1) := by decide +kernel
theorem dX13_newStatement_160 : decode cX13_newStatement 160 = .ok (.getfield 48, 3) := by decide +kernel
theorem dX13_newStatement_163 : decode cX13_newStatement 163 = .ok (.iload_n 3, 1) := by decide +kernel
theorem dX13_newStatement_164 : decode cX13_newStatement 164 = .ok (.iload_n 1, 1) := by decide +kernel
theorem dX13_newStatement_165 : decode cX13_newStatement 165 = .ok (.iastore, 1) := by decide +kernel
theorem dX13_newStatement_166 : decode cX13_newStatement 166 = .ok (.goto 10, 3) := by decide +kernel
theorem dX13_newStatement_169 : decode cX13_newStatement 169 = .ok (.aload_n 0, 1) := by decide +kernel
theorem dX13_newStatement_170 : decode cX13_newStatement 170 = .ok (.getfield 51, 3) := by decide +kernel
theorem dX13_newStatement_173 : decode cX13_newStatement 173 = .ok (.iload_n 3, 1) := by decide +kernel
theorem dX13_newStatement_174 : decode cX13_newStatement 174 = .ok (.iload_n 1, 1) := by decide +kernel
theorem dX13_newStatement_175 : decode cX13_newStatement 175 = .ok (.iastore, 1) := by decide +kernel
theorem dX13_newStatement_176 : decode cX13_newStatement 176 = .ok (.aload_n 0, 1) := by decide +kernel
theorem dX13_newStatement_177 : decode cX13_newStatement 177 = .ok (.getfield 80, 3) := by decide +kernel
theorem dX13_newStatement_180 : decode cX13_newStatement 180 = .ok (.aload_n 0, 1) := by decide +kernel
theorem dX13_newStatement_181 : decode cX13_newStatement 181 = .ok (.getfield 283, 3) := by decide +kernel
theorem dX13_newStatement_184 : decode cX13_newStatement 184 = .ok (.iload_n 1, 1) := by decide +kernel
theorem dX13_newStatement_185 : decode cX13_newStatement 185 = .ok (.iastore, 1) := by decide +kernel
theorem dX13_newStatement_186 : decode cX13_newStatement 186 = .ok (.iload_n 1, 1) := by decide +kernel
theorem dX13_newStatement_187 : decode cX13_newStatement 187 = .ok (.ireturn, 1) := by decide +kernel
theorem dX13_next_0 : decode cX13_next 0 = .ok (.aload_n 0, 1) := by decide +kernel
theorem dX13_next_1 : decode cX13_next 1 = .ok (.aload_n 0, 1) := by decide +kernel
theorem dX13_next_2 : decode cX13_next 2 = .ok (.getfield 199, 3) := by decide +kernel
theorem dX13_next_5 : decode cX13_next 5 = .ok (.invokevirtual 202, 3) := by decide +kernel
theorem dX13_next_8 : decode cX13_next 8 = .ok (.bipush 32, 2) := by decide +kernel
theorem dX13_next_10 : decode cX13_next 10 = .ok (.if_icmp .eq 16, 3) := by decide +kernel
theorem dX13_next_13 : decode cX13_next 13 = .ok (.aload_n 0, 1) := by decide +kernel
theorem dX13_next_14 : decode cX13_next 14 = .ok (.aload_n 0, 1) := by decide +kernel
theorem dX13_next_15 : decode cX13_next 15 = .ok (.getfield 199, 3) := by decide +kernel
theorem dX13_next_18 : decode cX13_next 18 = .ok (.invokevirtual 202, 3) := by decide +kernel
theorem dX13_next_21 : decode cX13_next 21 = .ok (.bipush 10, 2) := by decide +kernel
theorem dX13_next_23 : decode cX13_next 23 = .ok (.if_icmp .ne 16, 3) := by decide +kernel
theorem dX13_next_26 : decode cX13_next 26 = .ok (.aload_n 0, 1) := by decide +kernel
theorem dX13_next_27 : decode cX13_next 27 = .ok (.dup, 1) := by decide +kernel
theorem dX13_next_28 : decode cX13_next 28 = .ok (.getfield 199, 3) := by decide +kernel
theorem dX13_next_31 : decode cX13_next 31 = .ok (.iconst 1, 1) := by decide +kernel
theorem dX13_next_32 : decode cX13_next 32 = .ok (.iadd, 1) := by decide +kernel
theorem dX13_next_33 : decode cX13_next 33 = .ok (.putfield 199, 3) := by decide +kernel
theorem dX13_next_36 : decode cX13_next 36 = .ok (.goto (-36), 3) := by decide +kernel
theorem dX13_next_39 : decode cX13_next 39 = .ok (.aload_n 0, 1) := by decide +kernel
theorem dX13_next_40 : decode cX13_next 40 = .ok (.aload_n 0, 1) := by decide +kernel
theorem dX13_next_41 : decode cX13_next 41 = .ok (.getfield 199, 3) := by decide +kernel
theorem dX13_next_44 : decode cX13_next 44 = .ok (.putfield 206, 3) := by decide +kernel
theorem dX13_next_47 : decode cX13_next 47 = .ok (.aload_n 0, 1) := by decide +kernel
theorem dX13_next_48 : decode cX13_next 48 = .ok (.aload_n 0, 1) := by decide +kernel
theorem dX13_next_49 : decode cX13_next 49 = .ok (.getfield 199, 3) := by decide +kernel
theorem dX13_next_52 : decode cX13_next 52 = .ok (.invokevirtual 202, 3) := by decide +kernel
theorem dX13_next_55 : decode cX13_next 55 = .ok (.istore_n 1, 1) := by decide +kernel
theorem dX13_next_56 : decode cX13_next 56 = .ok (.iload_n 1, 1) := by decide +kernel
theorem dX13_next_57 : decode cX13_next 57 = .ok (.ifCond .ge 11, 3) := by decide +kernel
theorem dX13_next_60 : decode cX13_next 60 = .ok (.aload_n 0, 1) := by decide +kernel
theorem dX13_next_61 : decode cX13_next 61 = .ok (.iconst 0, 1) := by decide +kernel
theorem dX13_next_62 : decode cX13_next 62 = .ok (.putfield 209, 3) := by decide +kernel
theorem dX13_next_65 : decode cX13_next 65 = .ok (.goto 255, 3) := by decide +kernel
theorem dX13_next_68 : decode cX13_next 68 = .ok (.iload_n 1, 1) := by decide +kernel
theorem dX13_next_69 : decode cX13_next 69 = .ok (.invokestatic 212, 3) := by decide +kernel
theorem dX13_next_72 : decode cX13_next 72 = .ok (.ifCond .eq 116, 3) := by decide +kernel
theorem dX13_next_75 : decode cX13_next 75 = .ok (.iconst 0, 1) := by decide +kernel
theorem dX13_next_76 : decode cX13_next 76 = .ok (.istore_n 2, 1) := by decide +kernel
theorem dX13_next_77 : decode cX13_next 77 = .ok (.lconst 0, 1) := by decide +kernel
theorem dX13_next_78 : decode cX13_next 78 = .ok (.lstore_n 3, 1) := by decide +kernel
theorem dX13_next_79 : decode cX13_next 79 = .ok (.aload_n 0, 1) := by decide +kernel
theorem dX13_next_80 : decode cX13_next 80 = .ok (.aload_n 0, 1) := by decide +kernel
theorem dX13_next_81 : decode cX13_next 81 = .ok (.getfield 199, 3) := by decide +kernel
theorem dX13_next_84 : decode cX13_next 84 = .ok (.invokevirtual 202, 3) := by decide +kernel
theorem dX13_next_87 : decode cX13_next 87 = .ok (.invokestatic 212, 3) := by decide +kernel
theorem dX13_next_90 : decode cX13_next 90 = .ok (.ifCond .eq 44, 3) := by decide +kernel
theorem dX13_next_93 : decode cX13_next 93 = .ok (.iload_n 2, 1) := by decide +kernel
theorem dX13_next_94 : decode cX13_next 94 = .ok (.bipush 7, 2) := by decide +kernel
theorem dX13_next_96 : decode cX13_next 96 = .ok (.if_icmp .ge 20, 3) := by decide +kernel
theorem dX13_next_99 : decode cX13_next 99 = .ok (.lload_n 3, 1) := by decide +kernel
theorem dX13_next_100 : decode cX13_next 100 = .ok (.bipush 8, 2) := by decide +kernel
theorem dX13_next_102 : decode cX13_next 102 = .ok (.lshl, 1) := by decide +kernel
theorem dX13_next_103 : decode cX13_next 103 = .ok (.aload_n 0, 1) := by decide +kernel
theorem dX13_next_104 : decode cX13_next 104 = .ok (.aload_n 0, 1) := by decide +kernel
theorem dX13_next_105 : decode cX13_next 105 = .ok (.getfield 199, 3) := by decide +kernel
theorem dX13_next_108 : decode cX13_next 108 = .ok (.invokevirtual 202, 3) := by decide +kernel
theorem dX13_next_111 : decode cX13_next 111 = .ok (.i2l, 1) := by decide +kernel
theorem dX13_next_112 : decode cX13_next 112 = .ok (.lor, 1) := by decide +kernel
theorem dX13_next_113 : decode cX13_next 113 = .ok (.goto 4, 3) := by decide +kernel
theorem dX13_next_116 : decode cX13_next 116 = .ok (.lload_n 3, 1) := by decide +kernel
theorem dX13_next_117 : decode cX13_next 117 = .ok (.lstore_n 3, 1) := by decide +kernel
theorem dX13_next_118 : decode cX13_next 118 = .ok (.iinc 2 1, 3) := by decide +kernel
theorem dX13_next_121 : decode cX13_next 121 = .ok (.aload_n 0, 1) := by decide +kernel
theorem dX13_next_122 : decode cX13_next 122 = .ok (.dup, 1) := by decide +kernel
theorem dX13_next_123 : decode cX13_next 123 = .ok (.getfield 199, 3) := by decide +kernel
theorem dX13_next_126 : decode cX13_next 126 = .ok (.iconst 1, 1) := by decide +kernel
theorem dX13_next_127 : decode cX13_next 127 = .ok (.iadd, 1) := by decide +kernel
theorem dX13_next_128 : decode cX13_next 128 = .ok (.putfield 199, 3) := by decide +kernel
theorem dX13_next_131 : decode cX13_next 131 = .ok (.goto (-52), 3) := by decide +kernel
theorem dX13_next_134 : decode cX13_next 134 = .ok (.aload_n 0, 1) := by decide +kernel
theorem dX13_next_135 : decode cX13_next 135 = .ok (.iload_n 1, 1) := by decide +kernel
theorem dX13_next_136 : decode cX13_next 136 = .ok (.bipush 97, 2) := by decide +kernel
theorem dX13_next_138 : decode cX13_next 138 = .ok (.isub, 1) := by decide +kernel
theorem dX13_next_139 : decode cX13_next 139 = .ok (.putfield 216, 3) := by decide +kernel
theorem dX13_next_142 : decode cX13_next 142 = .ok (.iload_n 2, 1) := by decide +kernel
theorem dX13_next_143 : decode cX13_next 143 = .ok (.bipush 7, 2) := by decide +kernel
theorem dX13_next_145 : decode cX13_next 145 = .ok (.if_icmp .ge 10, 3) := by decide +kernel
theorem dX13_next_148 : decode cX13_next 148 = .ok (.lload_n 3, 1) := by decide +kernel
theorem dX13_next_149 : decode cX13_next 149 = .ok (.invokestatic 219, 3) := by decide +kernel
theorem dX13_next_152 : decode cX13_next 152 = .ok (.goto 4, 3) := by decide +kernel
theorem dX13_next_155 : decode cX13_next 155 = .ok (.iconst (-1), 1) := by decide +kernel
theorem dX13_next_156 : decode cX13_next 156 = .ok (.istore 5, 2) := by decide +kernel
theorem dX13_next_158 : decode cX13_next 158 = .ok (.aload_n 0, 1) := by decide +kernel
theorem dX13_next_159 : decode cX13_next 159 = .ok (.iload_n 2, 1) := by decide +kernel
theorem dX13_next_160 : decode cX13_next 160 = .ok (.iconst 1, 1) := by decide +kernel
theorem dX13_next_161 : decode cX13_next 161 = .ok (.if_icmp .ne 7, 3) := by decide +kernel
theorem dX13_next_164 : decode cX13_next 164 = .ok (.iconst 2, 1) := by decide +kernel
theorem dX13_next_165 : decode cX13_next 165 = .ok (.goto 17, 3) := by decide +kernel
theorem dX13_next_168 : decode cX13_next 168 = .ok (.iload 5, 2) := by decide +kernel
theorem dX13_next_170 : decode cX13_next 170 = .ok (.ifCond .ge 7, 3) := by decide +kernel
theorem dX13_next_173 : decode cX13_next 173 = .ok (.iconst 1, 1) := by decide +kernel
theorem dX13_next_174 : decode cX13_next 174 = .ok (.goto 8, 3) := by decide +kernel
theorem dX13_next_177 : decode cX13_next 177 = .ok (.bipush 10, 2) := by decide +kernel
theorem dX13_next_179 : decode cX13_next 179 = .ok (.iload 5, 2) := by decide +kernel
theorem dX13_next_181 : decode cX13_next 181 = .ok (.iadd, 1) := by decide +kernel
theorem dX13_next_182 : decode cX13_next 182 = .ok (.putfield 209, 3) := by decide +kernel
theorem dX13_next_185 : decode cX13_next 185 = .ok (.goto 135, 3) := by decide +kernel
theorem dX13_next_188 : decode cX13_next 188 = .ok (.iload_n 1, 1) := by decide +kernel
theorem dX13_next_189 : decode cX13_next 189 = .ok (.invokestatic 223, 3) := by decide +kernel
theorem dX13_next_192 : decode cX13_next 192 = .ok (.ifCond .eq 97, 3) := by decide +kernel
theorem dX13_next_195 : decode cX13_next 195 = .ok (.iconst 0, 1) := by decide +kernel
theorem dX13_next_196 : decode cX13_next 196 = .ok (.istore_n 2, 1) := by decide +kernel
theorem dX13_next_197 : decode cX13_next 197 = .ok (.aload_n 0, 1) := by decide +kernel
theorem dX13_next_198 : decode cX13_next 198 = .ok (.lconst 0, 1) := by decide +kernel
theorem dX13_next_199 : decode cX13_next 199 = .ok (.putfield 226, 3) := by decide +kernel
theorem dX13_next_202 : decode cX13_next 202 = .ok (.aload_n 0, 1) := by decide +kernel
theorem dX13_next_203 : decode cX13_next 203 = .ok (.aload_n 0, 1) := by decide +kernel
theorem dX13_next_204 : decode cX13_next 204 = .ok (.getfield 199, 3) := by decide +kernel
theorem dX13_next_207 : decode cX13_next 207 = .ok (.invokevirtual 202, 3) := by decide +kernel
theorem dX13_next_210 : decode cX13_next 210 = .ok (.invokestatic 223, 3) := by decide +kernel
theorem dX13_next_213 : decode cX13_next 213 = .ok (.ifCond .eq 58, 3) := by decide +kernel
theorem dX13_next_216 : decode cX13_next 216 = .ok (.aload_n 0, 1) := by decide +kernel
theorem dX13_next_217 : decode cX13_next 217 = .ok (.iload_n 2, 1) := by decide +kernel
theorem dX13_next_218 : decode cX13_next 218 = .ok (.bipush 9, 2) := by decide +kernel
theorem dX13_next_220 : decode cX13_next 220 = .ok (.if_icmp .ge 28, 3) := by decide +kernel
theorem dX13_next_223 : decode cX13_next 223 = .ok (.ldc2_w 230, 3) := by decide +kernel
theorem dX13_next_226 : decode cX13_next 226 = .ok (.aload_n 0, 1) := by decide +kernel
theorem dX13_next_227 : decode cX13_next 227 = .ok (.getfield 226, 3) := by decide +kernel
theorem dX13_next_230 : decode cX13_next 230 = .ok (.lmul, 1) := by decide +kernel
theorem dX13_next_231 : decode cX13_next 231 = .ok (.aload_n 0, 1) := by decide +kernel
theorem dX13_next_232 : decode cX13_next 232 = .ok (.aload_n 0, 1) := by decide +kernel
theorem dX13_next_233 : decode cX13_next 233 = .ok (.getfield 199, 3) := by decide +kernel
theorem dX13_next_236 : decode cX13_next 236 = .ok (.invokevirtual 202, 3) := by decide +kernel
theorem dX13_next_239 : decode cX13_next 239 = .ok (.i2l, 1) := by decide +kernel
theorem dX13_next_240 : decode cX13_next 240 = .ok (.ladd, 1) := by decide +kernel
theorem dX13_next_241 : decode cX13_next 241 = .ok (.ldc2_w 232, 3) := by decide +kernel
theorem dX13_next_244 : decode cX13_next 244 = .ok (.lsub, 1) := by decide +kernel
theorem dX13_next_245 : decode cX13_next 245 = .ok (.goto 7, 3) := by decide +kernel
theorem dX13_next_248 : decode cX13_next 248 = .ok (.aload_n 0, 1) := by decide +kernel
theorem dX13_next_249 : decode cX13_next 249 = .ok (.getfield 226, 3) := by decide +kernel
theorem dX13_next_252 : decode cX13_next 252 = .ok (.putfield 226, 3) := by decide +kernel
theorem dX13_next_255 : decode cX13_next 255 = .ok (.iinc 2 1, 3) := by decide +kernel
theorem dX13_next_258 : decode cX13_next 258 = .ok (.aload_n 0, 1) := by decide +kernel
theorem dX13_next_259 : decode cX13_next 259 = .ok (.dup, 1) := by decide +kernel
theorem dX13_next_260 : decode cX13_next 260 = .ok (.getfield 199, 3) := by decide +kernel
theorem dX13_next_263 : decode cX13_next 263 = .ok (.iconst 1, 1) := by decide +kernel
theorem dX13_next_264 : decode cX13_next 264 = .ok (.iadd, 1) := by decide +kernel
theorem dX13_next_265 : decode cX13_next 265 = .ok (.putfield 199, 3) := by decide +kernel
theorem dX13_next_268 : decode cX13_next 268 = .ok (.goto (-66), 3) := by decide +kernel
theorem dX13_next_271 : decode cX13_next 271 = .ok (.aload_n 0, 1) := by decide +kernel
theorem dX13_next_272 : decode cX13_next 272 = .ok (.iload_n 2, 1) := by decide +kernel
theorem dX13_next_273 : decode cX13_next 273 = .ok (.bipush 9, 2) := by decide +kernel
theorem dX13_next_275 : decode cX13_next 275 = .ok (.if_icmp .le 7, 3) := by decide +kernel
theorem dX13_next_278 : decode cX13_next 278 = .ok (.iconst 1, 1) := by decide +kernel
theorem dX13_next_279 : decode cX13_next 279 = .ok (.goto 4, 3) := by decide +kernel
theorem dX13_next_282 : decode cX13_next 282 = .ok (.iconst 3, 1) := by decide +kernel
theorem dX13_next_283 : decode cX13_next 283 = .ok (.putfield 209, 3) := by decide +kernel
theorem dX13_next_286 : decode cX13_next 286 = .ok (.goto 34, 3) := by decide +kernel
theorem dX13_next_289 : decode cX13_next 289 = .ok (.aload_n 0, 1) := by decide +kernel
theorem dX13_next_290 : decode cX13_next 290 = .ok (.iload_n 1, 1) := by decide +kernel
theorem dX13_next_291 : decode cX13_next 291 = .ok (.putfield 234, 3) := by decide +kernel
theorem dX13_next_294 : decode cX13_next 294 = .ok (.aload_n 0, 1) := by decide +kernel
theorem dX13_next_295 : decode cX13_next 295 = .ok (.iload_n 1, 1) := by decide +kernel
theorem dX13_next_296 : decode cX13_next 296 = .ok (.invokestatic 237, 3) := by decide +kernel
theorem dX13_next_299 : decode cX13_next 299 = .ok (.ifCond .eq 7, 3) := by decide +kernel
theorem dX13_next_302 : decode cX13_next 302 = .ok (.iconst 4, 1) := by decide +kernel
theorem dX13_next_303 : decode cX13_next 303 = .ok (.goto 4, 3) := by decide +kernel
theorem dX13_next_306 : decode cX13_next 306 = .ok (.iconst 1, 1) := by decide +kernel
theorem dX13_next_307 : decode cX13_next 307 = .ok (.putfield 209, 3) := by decide +kernel
theorem dX13_next_310 : decode cX13_next 310 = .ok (.aload_n 0, 1) := by decide +kernel
theorem dX13_next_311 : decode cX13_next 311 = .ok (.dup, 1) := by decide +kernel
theorem dX13_next_312 : decode cX13_next 312 = .ok (.getfield 199, 3) := by decide +kernel
theorem dX13_next_315 : decode cX13_next 315 = .ok (.iconst 1, 1) := by decide +kernel
theorem dX13_next_316 : decode cX13_next 316 = .ok (.iadd, 1) := by decide +kernel
theorem dX13_next_317 : decode cX13_next 317 = .ok (.putfield 199, 3) := by decide +kernel
theorem dX13_next_320 : decode cX13_next 320 = .ok (.return_, 1) := by decide +kernel
theorem dX13_openBody_0 : decode cX13_openBody 0 = .ok (.aload_n 0, 1) := by decide +kernel
theorem dX13_openBody_1 : decode cX13_openBody 1 = .ok (.bipush 123, 2) := by decide +kernel
theorem dX13_openBody_3 : decode cX13_openBody 3 = .ok (.invokevirtual 244, 3) := by decide +kernel
theorem dX13_openBody_6 : decode cX13_openBody 6 = .ok (.ifCond .eq 12, 3) := by decide +kernel
theorem dX13_openBody_9 : decode cX13_openBody 9 = .ok (.aload_n 0, 1) := by decide +kernel
theorem dX13_openBody_10 : decode cX13_openBody 10 = .ok (.getfield 283, 3) := by decide +kernel
theorem dX13_openBody_13 : decode cX13_openBody 13 = .ok (.bipush 8, 2) := by decide +kernel
theorem dX13_openBody_15 : decode cX13_openBody 15 = .ok (.if_icmp .ne 8, 3) := by decide +kernel
theorem dX13_openBody_18 : decode cX13_openBody 18 = .ok (.aload_n 0, 1) := by decide +kernel
theorem dX13_openBody_19 : decode cX13_openBody 19 = .ok (.invokevirtual 247, 3) := by decide +kernel
theorem dX13_openBody_22 : decode cX13_openBody 22 = .ok (.return_, 1) := by decide +kernel
theorem dX13_openBody_23 : decode cX13_openBody 23 = .ok (.aload_n 0, 1) := by decide +kernel
theorem dX13_openBody_24 : decode cX13_openBody 24 = .ok (.dup, 1) := by decide +kernel
theorem dX13_openBody_25 : decode cX13_openBody 25 = .ok (.getfield 283, 3) := by decide +kernel
theorem dX13_openBody_28 : decode cX13_openBody 28 = .ok (.iconst 1, 1) := by decide +kernel
theorem dX13_openBody_29 : decode cX13_openBody 29 = .ok (.iadd, 1) := by decide +kernel
theorem dX13_openBody_30 : decode cX13_openBody 30 = .ok (.putfield 283, 3) := by decide +kernel
theorem dX13_openBody_33 : decode cX13_openBody 33 = .ok (.aload_n 0, 1) := by decide +kernel
theorem dX13_openBody_34 : decode cX13_openBody 34 = .ok (.getfield 24, 3) := by decide +kernel
theorem dX13_openBody_37 : decode cX13_openBody 37 = .ok (.aload_n 0, 1) := by decide +kernel
theorem dX13_openBody_38 : decode cX13_openBody 38 = .ok (.getfield 253, 3) := by decide +kernel
theorem dX13_openBody_41 : decode cX13_openBody 41 = .ok (.aload_n 0, 1) := by decide +kernel
theorem dX13_openBody_42 : decode cX13_openBody 42 = .ok (.getfield 283, 3) := by decide +kernel
theorem dX13_openBody_45 : decode cX13_openBody 45 = .ok (.aload_n 0, 1) := by decide +kernel
theorem dX13_openBody_46 : decode cX13_openBody 46 = .ok (.getfield 24, 3) := by decide +kernel
theorem dX13_openBody_49 : decode cX13_openBody 49 = .ok (.aload_n 0, 1) := by decide +kernel
theorem dX13_openBody_50 : decode cX13_openBody 50 = .ok (.getfield 253, 3) := by decide +kernel
theorem dX13_openBody_53 : decode cX13_openBody 53 = .ok (.iaload, 1) := by decide +kernel
theorem dX13_openBody_54 : decode cX13_openBody 54 = .ok (.if_icmp .le 10, 3) := by decide +kernel
theorem dX13_openBody_57 : decode cX13_openBody 57 = .ok (.aload_n 0, 1) := by decide +kernel
theorem dX13_openBody_58 : decode cX13_openBody 58 = .ok (.getfield 283, 3) := by decide +kernel
theorem dX13_openBody_61 : decode cX13_openBody 61 = .ok (.goto 12, 3) := by decide +kernel
theorem dX13_openBody_64 : decode cX13_openBody 64 = .ok (.aload_n 0, 1) := by decide +kernel
theorem dX13_openBody_65 : decode cX13_openBody 65 = .ok (.getfield 24, 3) := by decide +kernel
theorem dX13_openBody_68 : decode cX13_openBody 68 = .ok (.aload_n 0, 1) := by decide +kernel
theorem dX13_openBody_69 : decode cX13_openBody 69 = .ok (.getfield 253, 3) := by decide +kernel
theorem dX13_openBody_72 : decode cX13_openBody 72 = .ok (.iaload, 1) := by decide +kernel
theorem dX13_openBody_73 : decode cX13_openBody 73 = .ok (.iastore, 1) := by decide +kernel
theorem dX13_openBody_74 : decode cX13_openBody 74 = .ok (.aload_n 0, 1) := by decide +kernel
theorem dX13_openBody_75 : decode cX13_openBody 75 = .ok (.getfield 74, 3) := by decide +kernel
theorem dX13_openBody_78 : decode cX13_openBody 78 = .ok (.aload_n 0, 1) := by decide +kernel
theorem dX13_openBody_79 : decode cX13_openBody 79 = .ok (.getfield 283, 3) := by decide +kernel
theorem dX13_openBody_82 : decode cX13_openBody 82 = .ok (.iload_n 1, 1) := by decide +kernel
theorem dX13_openBody_83 : decode cX13_openBody 83 = .ok (.iastore, 1) := by decide +kernel
theorem dX13_openBody_84 : decode cX13_openBody 84 = .ok (.aload_n 0, 1) := by decide +kernel
theorem dX13_openBody_85 : decode cX13_openBody 85 = .ok (.getfield 77, 3) := by decide +kernel
theorem dX13_openBody_88 : decode cX13_openBody 88 = .ok (.aload_n 0, 1) := by decide +kernel
theorem dX13_openBody_89 : decode cX13_openBody 89 = .ok (.getfield 283, 3) := by decide +kernel
theorem dX13_openBody_92 : decode cX13_openBody 92 = .ok (.iload_n 2, 1) := by decide +kernel
theorem dX13_openBody_93 : decode cX13_openBody 93 = .ok (.iastore, 1) := by decide +kernel
theorem dX13_openBody_94 : decode cX13_openBody 94 = .ok (.aload_n 0, 1) := by decide +kernel
theorem dX13_openBody_95 : decode cX13_openBody 95 = .ok (.getfield 80, 3) := by decide +kernel
theorem dX13_openBody_98 : decode cX13_openBody 98 = .ok (.aload_n 0, 1) := by decide +kernel
theorem dX13_openBody_99 : decode cX13_openBody 99 = .ok (.getfield 283, 3) := by decide +kernel
theorem dX13_openBody_102 : decode cX13_openBody 102 = .ok (.iconst (-1), 1) := by decide +kernel
theorem dX13_openBody_103 : decode cX13_openBody 103 = .ok (.iastore, 1) := by decide +kernel
theorem dX13_openBody_104 : decode cX13_openBody 104 = .ok (.aload_n 0, 1) := by decide +kernel
theorem dX13_openBody_105 : decode cX13_openBody 105 = .ok (.invokevirtual 250, 3) := by decide +kernel
theorem dX13_openBody_108 : decode cX13_openBody 108 = .ok (.return_, 1) := by decide +kernel
theorem dX13_operandIsThere_0 : decode cX13_operandIsThere 0 = .ok (.aload_n 0, 1) := by decide +kernel
theorem dX13_operandIsThere_1 : decode cX13_operandIsThere 1 = .ok (.getfield 256, 3) := by decide +kernel
theorem dX13_operandIsThere_4 : decode cX13_operandIsThere 4 = .ok (.ifCond .le 50, 3) := by decide +kernel
theorem dX13_operandIsThere_7 : decode cX13_operandIsThere 7 = .ok (.aload_n 0, 1) := by decide +kernel
theorem dX13_operandIsThere_8 : decode cX13_operandIsThere 8 = .ok (.getfield 67, 3) := by decide +kernel
theorem dX13_operandIsThere_11 : decode cX13_operandIsThere 11 = .ok (.aload_n 0, 1) := by decide +kernel
theorem dX13_operandIsThere_12 : decode cX13_operandIsThere 12 = .ok (.getfield 256, 3) := by decide +kernel
theorem dX13_operandIsThere_15 : decode cX13_operandIsThere 15 = .ok (.iconst 1, 1) := by decide +kernel
theorem dX13_operandIsThere_16 : decode cX13_operandIsThere 16 = .ok (.isub, 1) := by decide +kernel
theorem dX13_operandIsThere_17 : decode cX13_operandIsThere 17 = .ok (.iaload, 1) := by decide +kernel
theorem dX13_operandIsThere_18 : decode cX13_operandIsThere 18 = .ok (.sipush 1000, 3) := by decide +kernel
theorem dX13_operandIsThere_21 : decode cX13_operandIsThere 21 = .ok (.if_icmp .ne 33, 3) := by decide +kernel
theorem dX13_operandIsThere_24 : decode cX13_operandIsThere 24 = .ok (.aload_n 0, 1) := by decide +kernel
theorem dX13_operandIsThere_25 : decode cX13_operandIsThere 25 = .ok (.dup, 1) := by decide +kernel
theorem dX13_operandIsThere_26 : decode cX13_operandIsThere 26 = .ok (.getfield 256, 3) := by decide +kernel
theorem dX13_operandIsThere_29 : decode cX13_operandIsThere 29 = .ok (.iconst 1, 1) := by decide +kernel
theorem dX13_operandIsThere_30 : decode cX13_operandIsThere 30 = .ok (.isub, 1) := by decide +kernel
theorem dX13_operandIsThere_31 : decode cX13_operandIsThere 31 = .ok (.putfield 256, 3) := by decide +kernel
theorem dX13_operandIsThere_34 : decode cX13_operandIsThere 34 = .ok (.aload_n 0, 1) := by decide +kernel
theorem dX13_operandIsThere_35 : decode cX13_operandIsThere 35 = .ok (.dup, 1) := by decide +kernel
theorem dX13_operandIsThere_36 : decode cX13_operandIsThere 36 = .ok (.getfield 266, 3) := by decide +kernel
theorem dX13_operandIsThere_39 : decode cX13_operandIsThere 39 = .ok (.iconst 1, 1) := by decide +kernel
theorem dX13_operandIsThere_40 : decode cX13_operandIsThere 40 = .ok (.isub, 1) := by decide +kernel
theorem dX13_operandIsThere_41 : decode cX13_operandIsThere 41 = .ok (.putfield 266, 3) := by decide +kernel
theorem dX13_operandIsThere_44 : decode cX13_operandIsThere 44 = .ok (.aload_n 0, 1) := by decide +kernel
theorem dX13_operandIsThere_45 : decode cX13_operandIsThere 45 = .ok (.iconst 3, 1) := by decide +kernel
theorem dX13_operandIsThere_46 : decode cX13_operandIsThere 46 = .ok (.iconst (-1), 1) := by decide +kernel
theorem dX13_operandIsThere_47 : decode cX13_operandIsThere 47 = .ok (.lconst 0, 1) := by decide +kernel
theorem dX13_operandIsThere_48 : decode cX13_operandIsThere 48 = .ok (.invokevirtual 262, 3) := by decide +kernel
theorem dX13_operandIsThere_51 : decode cX13_operandIsThere 51 = .ok (.goto (-51), 3) := by decide +kernel
theorem dX13_operandIsThere_54 : decode cX13_operandIsThere 54 = .ok (.return_, 1) := by decide +kernel
theorem dX13_over_0 : decode cX13_over 0 = .ok (.aload_n 0, 1) := by decide +kernel
theorem dX13_over_1 : decode cX13_over 1 = .ok (.getfield 101, 3) := by decide +kernel
theorem dX13_over_4 : decode cX13_over 4 = .ok (.iload_n 1, 1) := by decide +kernel
theorem dX13_over_5 : decode cX13_over 5 = .ok (.iconst 0, 1) := by decide +kernel
theorem dX13_over_6 : decode cX13_over 6 = .ok (.iastore, 1) := by decide +kernel
theorem dX13_over_7 : decode cX13_over 7 = .ok (.aload_n 0, 1) := by decide +kernel
theorem dX13_over_8 : decode cX13_over 8 = .ok (.getfield 104, 3) := by decide +kernel
theorem dX13_over_11 : decode cX13_over 11 = .ok (.iload_n 1, 1) := by decide +kernel
theorem dX13_over_12 : decode cX13_over 12 = .ok (.iconst 0, 1) := by decide +kernel
theorem dX13_over_13 : decode cX13_over 13 = .ok (.iastore, 1) := by decide +kernel
theorem dX13_over_14 : decode cX13_over 14 = .ok (.aload_n 0, 1) := by decide +kernel
theorem dX13_over_15 : decode cX13_over 15 = .ok (.getfield 113, 3) := by decide +kernel
theorem dX13_over_18 : decode cX13_over 18 = .ok (.iload_n 1, 1) := by decide +kernel
theorem dX13_over_19 : decode cX13_over 19 = .ok (.iconst 0, 1) := by decide +kernel
theorem dX13_over_20 : decode cX13_over 20 = .ok (.iastore, 1) := by decide +kernel
theorem dX13_over_21 : decode cX13_over 21 = .ok (.aload_n 0, 1) := by decide +kernel
theorem dX13_over_22 : decode cX13_over 22 = .ok (.getfield 107, 3) := by decide +kernel
theorem dX13_over_25 : decode cX13_over 25 = .ok (.iload_n 1, 1) := by decide +kernel
theorem dX13_over_26 : decode cX13_over 26 = .ok (.iconst 0, 1) := by decide +kernel
theorem dX13_over_27 : decode cX13_over 27 = .ok (.iastore, 1) := by decide +kernel
theorem dX13_over_28 : decode cX13_over 28 = .ok (.aload_n 0, 1) := by decide +kernel
theorem dX13_over_29 : decode cX13_over 29 = .ok (.getfield 110, 3) := by decide +kernel
theorem dX13_over_32 : decode cX13_over 32 = .ok (.iload_n 1, 1) := by decide +kernel
theorem dX13_over_33 : decode cX13_over 33 = .ok (.iconst 0, 1) := by decide +kernel
theorem dX13_over_34 : decode cX13_over 34 = .ok (.bastore, 1) := by decide +kernel
theorem dX13_over_35 : decode cX13_over 35 = .ok (.aload_n 0, 1) := by decide +kernel
theorem dX13_over_36 : decode cX13_over 36 = .ok (.getfield 98, 3) := by decide +kernel
theorem dX13_over_39 : decode cX13_over 39 = .ok (.iload_n 1, 1) := by decide +kernel
theorem dX13_over_40 : decode cX13_over 40 = .ok (.dup2, 1) := by decide +kernel
theorem dX13_over_41 : decode cX13_over 41 = .ok (.iaload, 1) := by decide +kernel
theorem dX13_over_42 : decode cX13_over 42 = .ok (.iconst 1, 1) := by decide +kernel
theorem dX13_over_43 : decode cX13_over 43 = .ok (.isub, 1) := by decide +kernel
theorem dX13_over_44 : decode cX13_over 44 = .ok (.iastore, 1) := by decide +kernel
theorem dX13_over_45 : decode cX13_over 45 = .ok (.iconst 0, 1) := by decide +kernel
theorem dX13_over_46 : decode cX13_over 46 = .ok (.istore_n 2, 1) := by decide +kernel
theorem dX13_over_47 : decode cX13_over 47 = .ok (.iload_n 2, 1) := by decide +kernel
theorem dX13_over_48 : decode cX13_over 48 = .ok (.aload_n 0, 1) := by decide +kernel
theorem dX13_over_49 : decode cX13_over 49 = .ok (.getfield 98, 3) := by decide +kernel
theorem dX13_over_52 : decode cX13_over 52 = .ok (.iload_n 1, 1) := by decide +kernel
theorem dX13_over_53 : decode cX13_over 53 = .ok (.iaload, 1) := by decide +kernel
theorem dX13_over_54 : decode cX13_over 54 = .ok (.if_icmp .ge 33, 3) := by decide +kernel
theorem dX13_over_57 : decode cX13_over 57 = .ok (.aload_n 0, 1) := by decide +kernel
theorem dX13_over_58 : decode cX13_over 58 = .ok (.getfield 95, 3) := by decide +kernel
theorem dX13_over_61 : decode cX13_over 61 = .ok (.bipush 16, 2) := by decide +kernel
theorem dX13_over_63 : decode cX13_over 63 = .ok (.iload_n 1, 1) := by decide +kernel
theorem dX13_over_64 : decode cX13_over 64 = .ok (.imul, 1) := by decide +kernel
theorem dX13_over_65 : decode cX13_over 65 = .ok (.iload_n 2, 1) := by decide +kernel
theorem dX13_over_66 : decode cX13_over 66 = .ok (.iadd, 1) := by decide +kernel
theorem dX13_over_67 : decode cX13_over 67 = .ok (.aload_n 0, 1) := by decide +kernel
theorem dX13_over_68 : decode cX13_over 68 = .ok (.getfield 95, 3) := by decide +kernel
theorem dX13_over_71 : decode cX13_over 71 = .ok (.bipush 16, 2) := by decide +kernel
theorem dX13_over_73 : decode cX13_over 73 = .ok (.iload_n 1, 1) := by decide +kernel
theorem dX13_over_74 : decode cX13_over 74 = .ok (.imul, 1) := by decide +kernel
theorem dX13_over_75 : decode cX13_over 75 = .ok (.iload_n 2, 1) := by decide +kernel
theorem dX13_over_76 : decode cX13_over 76 = .ok (.iadd, 1) := by decide +kernel
theorem dX13_over_77 : decode cX13_over 77 = .ok (.iconst 1, 1) := by decide +kernel
theorem dX13_over_78 : decode cX13_over 78 = .ok (.iadd, 1) := by decide +kernel
theorem dX13_over_79 : decode cX13_over 79 = .ok (.iaload, 1) := by decide +kernel
theorem dX13_over_80 : decode cX13_over 80 = .ok (.iastore, 1) := by decide +kernel
theorem dX13_over_81 : decode cX13_over 81 = .ok (.iinc 2 1, 3) := by decide +kernel
theorem dX13_over_84 : decode cX13_over 84 = .ok (.goto (-37), 3) := by decide +kernel
theorem dX13_over_87 : decode cX13_over 87 = .ok (.return_, 1) := by decide +kernel
theorem dX13_place_0 : decode cX13_place 0 = .ok (.aload_n 0, 1) := by decide +kernel
theorem dX13_place_1 : decode cX13_place 1 = .ok (.iconst 0, 1) := by decide +kernel
theorem dX13_place_2 : decode cX13_place 2 = .ok (.putfield 173, 3) := by decide +kernel
theorem dX13_place_5 : decode cX13_place 5 = .ok (.aload_n 0, 1) := by decide +kernel
theorem dX13_place_6 : decode cX13_place 6 = .ok (.getfield 13, 3) := by decide +kernel
theorem dX13_place_9 : decode cX13_place 9 = .ok (.ireturn, 1) := by decide +kernel
theorem dX13_play_0 : decode cX13_play 0 = .ok (.aload_n 0, 1) := by decide +kernel
theorem dX13_play_1 : decode cX13_play 1 = .ok (.iconst 0, 1) := by decide +kernel
theorem dX13_play_2 : decode cX13_play 2 = .ok (.putfield 173, 3) := by decide +kernel
theorem dX13_play_5 : decode cX13_play 5 = .ok (.iload_n 3, 1) := by decide +kernel
theorem dX13_play_6 : decode cX13_play 6 = .ok (.ifCond .lt 10, 3) := by decide +kernel
theorem dX13_play_9 : decode cX13_play 9 = .ok (.iload_n 3, 1) := by decide +kernel
theorem dX13_play_10 : decode cX13_play 10 = .ok (.sipush 2000, 3) := by decide +kernel
theorem dX13_play_13 : decode cX13_play 13 = .ok (.if_icmp .le 5, 3) := by decide +kernel
theorem dX13_play_16 : decode cX13_play 16 = .ok (.iconst (-1), 1) := by decide +kernel
theorem dX13_play_17 : decode cX13_play 17 = .ok (.ireturn, 1) := by decide +kernel
theorem dX13_play_18 : decode cX13_play 18 = .ok (.lload_n 1, 1) := by decide +kernel
theorem dX13_play_19 : decode cX13_play 19 = .ok (.lstore 4, 2) := by decide +kernel
theorem dX13_play_21 : decode cX13_play 21 = .ok (.iconst 0, 1) := by decide +kernel
theorem dX13_play_22 : decode cX13_play 22 = .ok (.istore 6, 2) := by decide +kernel
theorem dX13_play_24 : decode cX13_play 24 = .ok (.iconst 0, 1) := by decide +kernel
theorem dX13_play_25 : decode cX13_play 25 = .ok (.istore 7, 2) := by decide +kernel
theorem dX13_play_27 : decode cX13_play 27 = .ok (.iload 7, 2) := by decide +kernel
theorem dX13_play_29 : decode cX13_play 29 = .ok (.iload_n 3, 1) := by decide +kernel
theorem dX13_play_30 : decode cX13_play 30 = .ok (.if_icmp .ge 45, 3) := by decide +kernel
theorem dX13_play_33 : decode cX13_play 33 = .ok (.lload 4, 2) := by decide +kernel
theorem dX13_play_35 : decode cX13_play 35 = .ok (.ldc2_w 437, 3) := by decide +kernel
theorem dX13_play_38 : decode cX13_play 38 = .ok (.lmul, 1) := by decide +kernel
theorem dX13_play_39 : decode cX13_play 39 = .ok (.ldc2_w 439, 3) := by decide +kernel
theorem dX13_play_42 : decode cX13_play 42 = .ok (.ladd, 1) := by decide +kernel
theorem dX13_play_43 : decode cX13_play 43 = .ok (.lstore 4, 2) := by decide +kernel
theorem dX13_play_45 : decode cX13_play 45 = .ok (.iload 6, 2) := by decide +kernel
theorem dX13_play_47 : decode cX13_play 47 = .ok (.aload_n 0, 1) := by decide +kernel
theorem dX13_play_48 : decode cX13_play 48 = .ok (.lload 4, 2) := by decide +kernel
theorem dX13_play_50 : decode cX13_play 50 = .ok (.bipush 61, 2) := by decide +kernel
theorem dX13_play_52 : decode cX13_play 52 = .ok (.lushr, 1) := by decide +kernel
theorem dX13_play_53 : decode cX13_play 53 = .ok (.l2i, 1) := by decide +kernel
theorem dX13_play_54 : decode cX13_play 54 = .ok (.invokevirtual 434, 3) := by decide +kernel
theorem dX13_play_57 : decode cX13_play 57 = .ok (.iconst 1, 1) := by decide +kernel
theorem dX13_play_58 : decode cX13_play 58 = .ok (.if_icmp .ne 7, 3) := by decide +kernel
theorem dX13_play_61 : decode cX13_play 61 = .ok (.iconst 1, 1) := by decide +kernel
theorem dX13_play_62 : decode cX13_play 62 = .ok (.goto 4, 3) := by decide +kernel
theorem dX13_play_65 : decode cX13_play 65 = .ok (.iconst 0, 1) := by decide +kernel
theorem dX13_play_66 : decode cX13_play 66 = .ok (.iadd, 1) := by decide +kernel
theorem dX13_play_67 : decode cX13_play 67 = .ok (.istore 6, 2) := by decide +kernel
theorem dX13_play_69 : decode cX13_play 69 = .ok (.iinc 7 1, 3) := by decide +kernel
theorem dX13_play_72 : decode cX13_play 72 = .ok (.goto (-45), 3) := by decide +kernel
theorem dX13_play_75 : decode cX13_play 75 = .ok (.iload 6, 2) := by decide +kernel
theorem dX13_play_77 : decode cX13_play 77 = .ok (.ireturn, 1) := by decide +kernel
theorem dX13_put_0 : decode cX13_put 0 = .ok (.aload_n 0, 1) := by decide +kernel
theorem dX13_put_1 : decode cX13_put 1 = .ok (.iconst 0, 1) := by decide +kernel
theorem dX13_put_2 : decode cX13_put 2 = .ok (.putfield 173, 3) := by decide +kernel
theorem dX13_put_5 : decode cX13_put 5 = .ok (.iload_n 1, 1) := by decide +kernel
theorem dX13_put_6 : decode cX13_put 6 = .ok (.ifCond .lt 19, 3) := by decide +kernel
theorem dX13_put_9 : decode cX13_put 9 = .ok (.iload_n 1, 1) := by decide +kernel
theorem dX13_put_10 : decode cX13_put 10 = .ok (.bipush 16, 2) := by decide +kernel
theorem dX13_put_12 : decode cX13_put 12 = .ok (.if_icmp .ge 13, 3) := by decide +kernel
theorem dX13_put_15 : decode cX13_put 15 = .ok (.aload_n 0, 1) := by decide +kernel
theorem dX13_put_16 : decode cX13_put 16 = .ok (.getfield 386, 3) := by decide +kernel
theorem dX13_put_19 : decode cX13_put 19 = .ok (.sipush 300, 3) := by decide +kernel
theorem dX13_put_22 : decode cX13_put 22 = .ok (.if_icmp .ne 5, 3) := by decide +kernel
theorem dX13_put_25 : decode cX13_put 25 = .ok (.iconst (-1), 1) := by decide +kernel
theorem dX13_put_26 : decode cX13_put 26 = .ok (.ireturn, 1) := by decide +kernel
theorem dX13_put_27 : decode cX13_put 27 = .ok (.aload_n 0, 1) := by decide +kernel
theorem dX13_put_28 : decode cX13_put 28 = .ok (.iconst 0, 1) := by decide +kernel
theorem dX13_put_29 : decode cX13_put 29 = .ok (.putfield 319, 3) := by decide +kernel
theorem dX13_put_32 : decode cX13_put 32 = .ok (.iconst 0, 1) := by decide +kernel
theorem dX13_put_33 : decode cX13_put 33 = .ok (.istore 4, 2) := by decide +kernel
theorem dX13_put_35 : decode cX13_put 35 = .ok (.iload 4, 2) := by decide +kernel
theorem dX13_put_37 : decode cX13_put 37 = .ok (.bipush 16, 2) := by decide +kernel
theorem dX13_put_39 : decode cX13_put 39 = .ok (.if_icmp .ge 33, 3) := by decide +kernel
theorem dX13_put_42 : decode cX13_put 42 = .ok (.aload_n 0, 1) := by decide +kernel
theorem dX13_put_43 : decode cX13_put 43 = .ok (.getfield 152, 3) := by decide +kernel
theorem dX13_put_46 : decode cX13_put 46 = .ok (.iload 4, 2) := by decide +kernel
theorem dX13_put_48 : decode cX13_put 48 = .ok (.iload 4, 2) := by decide +kernel
theorem dX13_put_50 : decode cX13_put 50 = .ok (.iload_n 1, 1) := by decide +kernel
theorem dX13_put_51 : decode cX13_put 51 = .ok (.if_icmp .ne 7, 3) := by decide +kernel
theorem dX13_put_54 : decode cX13_put 54 = .ok (.lload_n 2, 1) := by decide +kernel
theorem dX13_put_55 : decode cX13_put 55 = .ok (.goto 10, 3) := by decide +kernel
theorem dX13_put_58 : decode cX13_put 58 = .ok (.aload_n 0, 1) := by decide +kernel
theorem dX13_put_59 : decode cX13_put 59 = .ok (.getfield 83, 3) := by decide +kernel
theorem dX13_put_62 : decode cX13_put 62 = .ok (.iload 4, 2) := by decide +kernel
theorem dX13_put_64 : decode cX13_put 64 = .ok (.laload, 1) := by decide +kernel
theorem dX13_put_65 : decode cX13_put 65 = .ok (.lastore, 1) := by decide +kernel
theorem dX13_put_66 : decode cX13_put 66 = .ok (.iinc 4 1, 3) := by decide +kernel
theorem dX13_put_69 : decode cX13_put 69 = .ok (.goto (-34), 3) := by decide +kernel
theorem dX13_put_72 : decode cX13_put 72 = .ok (.aload_n 0, 1) := by decide +kernel
theorem dX13_put_73 : decode cX13_put 73 = .ok (.invokevirtual 383, 3) := by decide +kernel
theorem dX13_put_76 : decode cX13_put 76 = .ok (.ifCond .ne 6, 3) := by decide +kernel
theorem dX13_put_79 : decode cX13_put 79 = .ok (.bipush (-2), 2) := by decide +kernel
theorem dX13_put_81 : decode cX13_put 81 = .ok (.ireturn, 1) := by decide +kernel
theorem dX13_put_82 : decode cX13_put 82 = .ok (.aload_n 0, 1) := by decide +kernel
theorem dX13_put_83 : decode cX13_put 83 = .ok (.getfield 83, 3) := by decide +kernel
theorem dX13_put_86 : decode cX13_put 86 = .ok (.iload_n 1, 1) := by decide +kernel
theorem dX13_put_87 : decode cX13_put 87 = .ok (.lload_n 2, 1) := by decide +kernel
theorem dX13_put_88 : decode cX13_put 88 = .ok (.lastore, 1) := by decide +kernel
theorem dX13_put_89 : decode cX13_put 89 = .ok (.aload_n 0, 1) := by decide +kernel
theorem dX13_put_90 : decode cX13_put 90 = .ok (.getfield 86, 3) := by decide +kernel
theorem dX13_put_93 : decode cX13_put 93 = .ok (.iload_n 1, 1) := by decide +kernel
theorem dX13_put_94 : decode cX13_put 94 = .ok (.dup2, 1) := by decide +kernel
theorem dX13_put_95 : decode cX13_put 95 = .ok (.iaload, 1) := by decide +kernel
theorem dX13_put_96 : decode cX13_put 96 = .ok (.iconst 1, 1) := by decide +kernel
theorem dX13_put_97 : decode cX13_put 97 = .ok (.iadd, 1) := by decide +kernel
theorem dX13_put_98 : decode cX13_put 98 = .ok (.iastore, 1) := by decide +kernel
theorem dX13_put_99 : decode cX13_put 99 = .ok (.aload_n 0, 1) := by decide +kernel
theorem dX13_put_100 : decode cX13_put 100 = .ok (.iconst 0, 1) := by decide +kernel
theorem dX13_put_101 : decode cX13_put 101 = .ok (.iconst (-1), 1) := by decide +kernel
theorem dX13_put_102 : decode cX13_put 102 = .ok (.iload_n 1, 1) := by decide +kernel
theorem dX13_put_103 : decode cX13_put 103 = .ok (.iconst 0, 1) := by decide +kernel
theorem dX13_put_104 : decode cX13_put 104 = .ok (.iconst 0, 1) := by decide +kernel
theorem dX13_put_105 : decode cX13_put 105 = .ok (.lload_n 2, 1) := by decide +kernel
theorem dX13_put_106 : decode cX13_put 106 = .ok (.invokevirtual 398, 3) := by decide +kernel
theorem dX13_put_109 : decode cX13_put 109 = .ok (.aload_n 0, 1) := by decide +kernel
theorem dX13_put_110 : decode cX13_put 110 = .ok (.getfield 86, 3) := by decide +kernel
theorem dX13_put_113 : decode cX13_put 113 = .ok (.iload_n 1, 1) := by decide +kernel
theorem dX13_put_114 : decode cX13_put 114 = .ok (.iaload, 1) := by decide +kernel
theorem dX13_put_115 : decode cX13_put 115 = .ok (.ireturn, 1) := by decide +kernel
