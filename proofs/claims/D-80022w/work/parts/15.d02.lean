/-! decode rows (by a program) -/
set_option maxRecDepth 100000
theorem dX3_hold_0 : decode cX3_hold 0 = .ok (.iconst 0, 1) := by decide +kernel
theorem dX3_hold_1 : decode cX3_hold 1 = .ok (.istore_n 2, 1) := by decide +kernel
theorem dX3_hold_2 : decode cX3_hold 2 = .ok (.iload_n 2, 1) := by decide +kernel
theorem dX3_hold_3 : decode cX3_hold 3 = .ok (.aload_n 0, 1) := by decide +kernel
theorem dX3_hold_4 : decode cX3_hold 4 = .ok (.getfield 41, 3) := by decide +kernel
theorem dX3_hold_7 : decode cX3_hold 7 = .ok (.if_icmp .ge 25, 3) := by decide +kernel
theorem dX3_hold_10 : decode cX3_hold 10 = .ok (.aload_n 0, 1) := by decide +kernel
theorem dX3_hold_11 : decode cX3_hold 11 = .ok (.aload_n 0, 1) := by decide +kernel
theorem dX3_hold_12 : decode cX3_hold 12 = .ok (.getfield 21, 3) := by decide +kernel
theorem dX3_hold_15 : decode cX3_hold 15 = .ok (.iload_n 2, 1) := by decide +kernel
theorem dX3_hold_16 : decode cX3_hold 16 = .ok (.aaload, 1) := by decide +kernel
theorem dX3_hold_17 : decode cX3_hold 17 = .ok (.aload_n 1, 1) := by decide +kernel
theorem dX3_hold_18 : decode cX3_hold 18 = .ok (.invokevirtual 45, 3) := by decide +kernel
theorem dX3_hold_21 : decode cX3_hold 21 = .ok (.ifCond .ne 5, 3) := by decide +kernel
theorem dX3_hold_24 : decode cX3_hold 24 = .ok (.iconst 0, 1) := by decide +kernel
theorem dX3_hold_25 : decode cX3_hold 25 = .ok (.ireturn, 1) := by decide +kernel
theorem dX3_hold_26 : decode cX3_hold 26 = .ok (.iinc 2 1, 3) := by decide +kernel
theorem dX3_hold_29 : decode cX3_hold 29 = .ok (.goto (-27), 3) := by decide +kernel
theorem dX3_hold_32 : decode cX3_hold 32 = .ok (.iconst 1, 1) := by decide +kernel
theorem dX3_hold_33 : decode cX3_hold 33 = .ok (.ireturn, 1) := by decide +kernel
theorem dX3_holds_0 : decode cX3_holds 0 = .ok (.aload_n 0, 1) := by decide +kernel
theorem dX3_holds_1 : decode cX3_holds 1 = .ok (.getfield 28, 3) := by decide +kernel
theorem dX3_holds_4 : decode cX3_holds 4 = .ok (.aload_n 1, 1) := by decide +kernel
theorem dX3_holds_5 : decode cX3_holds 5 = .ok (.aload_n 2, 1) := by decide +kernel
theorem dX3_holds_6 : decode cX3_holds 6 = .ok (.invokevirtual 49, 3) := by decide +kernel
theorem dX3_holds_9 : decode cX3_holds 9 = .ok (.lconst 0, 1) := by decide +kernel
theorem dX3_holds_10 : decode cX3_holds 10 = .ok (.lcmp, 1) := by decide +kernel
theorem dX3_holds_11 : decode cX3_holds 11 = .ok (.ifCond .eq 7, 3) := by decide +kernel
theorem dX3_holds_14 : decode cX3_holds 14 = .ok (.iconst 1, 1) := by decide +kernel
theorem dX3_holds_15 : decode cX3_holds 15 = .ok (.goto 4, 3) := by decide +kernel
theorem dX3_holds_18 : decode cX3_holds 18 = .ok (.iconst 0, 1) := by decide +kernel
theorem dX3_holds_19 : decode cX3_holds 19 = .ok (.ireturn, 1) := by decide +kernel
theorem dX3_holds_20 : decode cX3_holds 20 = .ok (.astore_n 3, 1) := by decide +kernel
theorem dX3_holds_21 : decode cX3_holds 21 = .ok (.iconst 0, 1) := by decide +kernel
theorem dX3_holds_22 : decode cX3_holds 22 = .ok (.ireturn, 1) := by decide +kernel
theorem dX3_init_0 : decode cX3_init 0 = .ok (.aload_n 0, 1) := by decide +kernel
theorem dX3_init_1 : decode cX3_init 1 = .ok (.invokespecial 3, 3) := by decide +kernel
theorem dX3_init_4 : decode cX3_init 4 = .ok (.aload_n 0, 1) := by decide +kernel
theorem dX3_init_5 : decode cX3_init 5 = .ok (.bipush 16, 2) := by decide +kernel
theorem dX3_init_7 : decode cX3_init 7 = .ok (.newarray .long, 2) := by decide +kernel
theorem dX3_init_9 : decode cX3_init 9 = .ok (.putfield 9, 3) := by decide +kernel
theorem dX3_init_12 : decode cX3_init 12 = .ok (.aload_n 0, 1) := by decide +kernel
theorem dX3_init_13 : decode cX3_init 13 = .ok (.bipush 16, 2) := by decide +kernel
theorem dX3_init_15 : decode cX3_init 15 = .ok (.newarray .int, 2) := by decide +kernel
theorem dX3_init_17 : decode cX3_init 17 = .ok (.putfield 15, 3) := by decide +kernel
theorem dX3_init_20 : decode cX3_init 20 = .ok (.aload_n 0, 1) := by decide +kernel
theorem dX3_init_21 : decode cX3_init 21 = .ok (.bipush 32, 2) := by decide +kernel
theorem dX3_init_23 : decode cX3_init 23 = .ok (.anewarray 19, 3) := by decide +kernel
theorem dX3_init_26 : decode cX3_init 26 = .ok (.putfield 21, 3) := by decide +kernel
theorem dX3_init_29 : decode cX3_init 29 = .ok (.aload_n 0, 1) := by decide +kernel
theorem dX3_init_30 : decode cX3_init 30 = .ok (.new 25, 3) := by decide +kernel
theorem dX3_init_33 : decode cX3_init 33 = .ok (.dup, 1) := by decide +kernel
theorem dX3_init_34 : decode cX3_init 34 = .ok (.invokespecial 27, 3) := by decide +kernel
theorem dX3_init_37 : decode cX3_init 37 = .ok (.putfield 28, 3) := by decide +kernel
theorem dX3_init_40 : decode cX3_init 40 = .ok (.return_, 1) := by decide +kernel
theorem dX3_isSame_0 : decode cX3_isSame 0 = .ok (.aload_n 0, 1) := by decide +kernel
theorem dX3_isSame_1 : decode cX3_isSame 1 = .ok (.getfield 41, 3) := by decide +kernel
theorem dX3_isSame_4 : decode cX3_isSame 4 = .ok (.aload_n 1, 1) := by decide +kernel
theorem dX3_isSame_5 : decode cX3_isSame 5 = .ok (.getfield 41, 3) := by decide +kernel
theorem dX3_isSame_8 : decode cX3_isSame 8 = .ok (.if_icmp .ne 7, 3) := by decide +kernel
theorem dX3_isSame_11 : decode cX3_isSame 11 = .ok (.iconst 1, 1) := by decide +kernel
theorem dX3_isSame_12 : decode cX3_isSame 12 = .ok (.goto 4, 3) := by decide +kernel
theorem dX3_isSame_15 : decode cX3_isSame 15 = .ok (.iconst 0, 1) := by decide +kernel
theorem dX3_isSame_16 : decode cX3_isSame 16 = .ok (.istore_n 2, 1) := by decide +kernel
theorem dX3_isSame_17 : decode cX3_isSame 17 = .ok (.iconst 0, 1) := by decide +kernel
theorem dX3_isSame_18 : decode cX3_isSame 18 = .ok (.istore_n 3, 1) := by decide +kernel
theorem dX3_isSame_19 : decode cX3_isSame 19 = .ok (.iload_n 3, 1) := by decide +kernel
theorem dX3_isSame_20 : decode cX3_isSame 20 = .ok (.bipush 16, 2) := by decide +kernel
theorem dX3_isSame_22 : decode cX3_isSame 22 = .ok (.if_icmp .ge 50, 3) := by decide +kernel
theorem dX3_isSame_25 : decode cX3_isSame 25 = .ok (.iload_n 2, 1) := by decide +kernel
theorem dX3_isSame_26 : decode cX3_isSame 26 = .ok (.ifCond .eq 46, 3) := by decide +kernel
theorem dX3_isSame_29 : decode cX3_isSame 29 = .ok (.aload_n 0, 1) := by decide +kernel
theorem dX3_isSame_30 : decode cX3_isSame 30 = .ok (.getfield 9, 3) := by decide +kernel
theorem dX3_isSame_33 : decode cX3_isSame 33 = .ok (.iload_n 3, 1) := by decide +kernel
theorem dX3_isSame_34 : decode cX3_isSame 34 = .ok (.laload, 1) := by decide +kernel
theorem dX3_isSame_35 : decode cX3_isSame 35 = .ok (.aload_n 1, 1) := by decide +kernel
theorem dX3_isSame_36 : decode cX3_isSame 36 = .ok (.getfield 9, 3) := by decide +kernel
theorem dX3_isSame_39 : decode cX3_isSame 39 = .ok (.iload_n 3, 1) := by decide +kernel
theorem dX3_isSame_40 : decode cX3_isSame 40 = .ok (.laload, 1) := by decide +kernel
theorem dX3_isSame_41 : decode cX3_isSame 41 = .ok (.lcmp, 1) := by decide +kernel
theorem dX3_isSame_42 : decode cX3_isSame 42 = .ok (.ifCond .ne 22, 3) := by decide +kernel
theorem dX3_isSame_45 : decode cX3_isSame 45 = .ok (.aload_n 0, 1) := by decide +kernel
theorem dX3_isSame_46 : decode cX3_isSame 46 = .ok (.getfield 15, 3) := by decide +kernel
theorem dX3_isSame_49 : decode cX3_isSame 49 = .ok (.iload_n 3, 1) := by decide +kernel
theorem dX3_isSame_50 : decode cX3_isSame 50 = .ok (.iaload, 1) := by decide +kernel
theorem dX3_isSame_51 : decode cX3_isSame 51 = .ok (.aload_n 1, 1) := by decide +kernel
theorem dX3_isSame_52 : decode cX3_isSame 52 = .ok (.getfield 15, 3) := by decide +kernel
theorem dX3_isSame_55 : decode cX3_isSame 55 = .ok (.iload_n 3, 1) := by decide +kernel
theorem dX3_isSame_56 : decode cX3_isSame 56 = .ok (.iaload, 1) := by decide +kernel
theorem dX3_isSame_57 : decode cX3_isSame 57 = .ok (.if_icmp .ne 7, 3) := by decide +kernel
theorem dX3_isSame_60 : decode cX3_isSame 60 = .ok (.iconst 1, 1) := by decide +kernel
theorem dX3_isSame_61 : decode cX3_isSame 61 = .ok (.goto 4, 3) := by decide +kernel
theorem dX3_isSame_64 : decode cX3_isSame 64 = .ok (.iconst 0, 1) := by decide +kernel
theorem dX3_isSame_65 : decode cX3_isSame 65 = .ok (.istore_n 2, 1) := by decide +kernel
theorem dX3_isSame_66 : decode cX3_isSame 66 = .ok (.iinc 3 1, 3) := by decide +kernel
theorem dX3_isSame_69 : decode cX3_isSame 69 = .ok (.goto (-50), 3) := by decide +kernel
theorem dX3_isSame_72 : decode cX3_isSame 72 = .ok (.iconst 0, 1) := by decide +kernel
theorem dX3_isSame_73 : decode cX3_isSame 73 = .ok (.istore_n 3, 1) := by decide +kernel
theorem dX3_isSame_74 : decode cX3_isSame 74 = .ok (.iload_n 3, 1) := by decide +kernel
theorem dX3_isSame_75 : decode cX3_isSame 75 = .ok (.aload_n 0, 1) := by decide +kernel
theorem dX3_isSame_76 : decode cX3_isSame 76 = .ok (.getfield 41, 3) := by decide +kernel
theorem dX3_isSame_79 : decode cX3_isSame 79 = .ok (.if_icmp .ge 34, 3) := by decide +kernel
theorem dX3_isSame_82 : decode cX3_isSame 82 = .ok (.iload_n 2, 1) := by decide +kernel
theorem dX3_isSame_83 : decode cX3_isSame 83 = .ok (.ifCond .eq 30, 3) := by decide +kernel
theorem dX3_isSame_86 : decode cX3_isSame 86 = .ok (.aload_n 0, 1) := by decide +kernel
theorem dX3_isSame_87 : decode cX3_isSame 87 = .ok (.getfield 21, 3) := by decide +kernel
theorem dX3_isSame_90 : decode cX3_isSame 90 = .ok (.iload_n 3, 1) := by decide +kernel
theorem dX3_isSame_91 : decode cX3_isSame 91 = .ok (.aaload, 1) := by decide +kernel
theorem dX3_isSame_92 : decode cX3_isSame 92 = .ok (.aload_n 1, 1) := by decide +kernel
theorem dX3_isSame_93 : decode cX3_isSame 93 = .ok (.getfield 21, 3) := by decide +kernel
theorem dX3_isSame_96 : decode cX3_isSame 96 = .ok (.iload_n 3, 1) := by decide +kernel
theorem dX3_isSame_97 : decode cX3_isSame 97 = .ok (.aaload, 1) := by decide +kernel
theorem dX3_isSame_98 : decode cX3_isSame 98 = .ok (.if_acmp .ne 7, 3) := by decide +kernel
theorem dX3_isSame_101 : decode cX3_isSame 101 = .ok (.iconst 1, 1) := by decide +kernel
theorem dX3_isSame_102 : decode cX3_isSame 102 = .ok (.goto 4, 3) := by decide +kernel
theorem dX3_isSame_105 : decode cX3_isSame 105 = .ok (.iconst 0, 1) := by decide +kernel
theorem dX3_isSame_106 : decode cX3_isSame 106 = .ok (.istore_n 2, 1) := by decide +kernel
theorem dX3_isSame_107 : decode cX3_isSame 107 = .ok (.iinc 3 1, 3) := by decide +kernel
theorem dX3_isSame_110 : decode cX3_isSame 110 = .ok (.goto (-36), 3) := by decide +kernel
theorem dX3_isSame_113 : decode cX3_isSame 113 = .ok (.iload_n 2, 1) := by decide +kernel
theorem dX3_isSame_114 : decode cX3_isSame 114 = .ok (.ireturn, 1) := by decide +kernel
theorem dX3_of_0 : decode cX3_of 0 = .ok (.aload_n 0, 1) := by decide +kernel
theorem dX3_of_1 : decode cX3_of 1 = .ok (.getfield 9, 3) := by decide +kernel
theorem dX3_of_4 : decode cX3_of 4 = .ok (.iload_n 1, 1) := by decide +kernel
theorem dX3_of_5 : decode cX3_of 5 = .ok (.laload, 1) := by decide +kernel
theorem dX3_of_6 : decode cX3_of 6 = .ok (.lreturn, 1) := by decide +kernel
theorem dX3_write_0 : decode cX3_write 0 = .ok (.aload_n 0, 1) := by decide +kernel
theorem dX3_write_1 : decode cX3_write 1 = .ok (.getfield 9, 3) := by decide +kernel
theorem dX3_write_4 : decode cX3_write 4 = .ok (.iload_n 1, 1) := by decide +kernel
theorem dX3_write_5 : decode cX3_write 5 = .ok (.lload_n 2, 1) := by decide +kernel
theorem dX3_write_6 : decode cX3_write 6 = .ok (.lastore, 1) := by decide +kernel
theorem dX3_write_7 : decode cX3_write 7 = .ok (.aload_n 0, 1) := by decide +kernel
theorem dX3_write_8 : decode cX3_write 8 = .ok (.getfield 15, 3) := by decide +kernel
theorem dX3_write_11 : decode cX3_write 11 = .ok (.iload_n 1, 1) := by decide +kernel
theorem dX3_write_12 : decode cX3_write 12 = .ok (.dup2, 1) := by decide +kernel
theorem dX3_write_13 : decode cX3_write 13 = .ok (.iaload, 1) := by decide +kernel
theorem dX3_write_14 : decode cX3_write 14 = .ok (.iconst 1, 1) := by decide +kernel
theorem dX3_write_15 : decode cX3_write 15 = .ok (.iadd, 1) := by decide +kernel
theorem dX3_write_16 : decode cX3_write 16 = .ok (.iastore, 1) := by decide +kernel
theorem dX3_write_17 : decode cX3_write 17 = .ok (.return_, 1) := by decide +kernel
theorem dX4_divided_0 : decode cX4_divided 0 = .ok (.lload 4, 2) := by decide +kernel
theorem dX4_divided_2 : decode cX4_divided 2 = .ok (.lconst 0, 1) := by decide +kernel
theorem dX4_divided_3 : decode cX4_divided 3 = .ok (.lcmp, 1) := by decide +kernel
theorem dX4_divided_4 : decode cX4_divided 4 = .ok (.ifCond .ne 11, 3) := by decide +kernel
theorem dX4_divided_7 : decode cX4_divided 7 = .ok (.aload_n 0, 1) := by decide +kernel
theorem dX4_divided_8 : decode cX4_divided 8 = .ok (.ldc2_w 58, 3) := by decide +kernel
theorem dX4_divided_11 : decode cX4_divided 11 = .ok (.invokevirtual 60, 3) := by decide +kernel
theorem dX4_divided_14 : decode cX4_divided 14 = .ok (.athrow, 1) := by decide +kernel
theorem dX4_divided_15 : decode cX4_divided 15 = .ok (.iload_n 1, 1) := by decide +kernel
theorem dX4_divided_16 : decode cX4_divided 16 = .ok (.bipush 47, 2) := by decide +kernel
theorem dX4_divided_18 : decode cX4_divided 18 = .ok (.if_icmp .ne 10, 3) := by decide +kernel
theorem dX4_divided_21 : decode cX4_divided 21 = .ok (.lload_n 2, 1) := by decide +kernel
theorem dX4_divided_22 : decode cX4_divided 22 = .ok (.lload 4, 2) := by decide +kernel
theorem dX4_divided_24 : decode cX4_divided 24 = .ok (.ldiv, 1) := by decide +kernel
theorem dX4_divided_25 : decode cX4_divided 25 = .ok (.goto 7, 3) := by decide +kernel
theorem dX4_divided_28 : decode cX4_divided 28 = .ok (.lload_n 2, 1) := by decide +kernel
theorem dX4_divided_29 : decode cX4_divided 29 = .ok (.lload 4, 2) := by decide +kernel
theorem dX4_divided_31 : decode cX4_divided 31 = .ok (.lrem, 1) := by decide +kernel
theorem dX4_divided_32 : decode cX4_divided 32 = .ok (.lreturn, 1) := by decide +kernel
theorem dX4_init_0 : decode cX4_init 0 = .ok (.aload_n 0, 1) := by decide +kernel
theorem dX4_init_1 : decode cX4_init 1 = .ok (.invokespecial 3, 3) := by decide +kernel
theorem dX4_init_4 : decode cX4_init 4 = .ok (.aload_n 0, 1) := by decide +kernel
theorem dX4_init_5 : decode cX4_init 5 = .ok (.new 9, 3) := by decide +kernel
theorem dX4_init_8 : decode cX4_init 8 = .ok (.dup, 1) := by decide +kernel
theorem dX4_init_9 : decode cX4_init 9 = .ok (.invokespecial 11, 3) := by decide +kernel
theorem dX4_init_12 : decode cX4_init 12 = .ok (.putfield 12, 3) := by decide +kernel
theorem dX4_init_15 : decode cX4_init 15 = .ok (.return_, 1) := by decide +kernel
theorem dX4_thrown_0 : decode cX4_thrown 0 = .ok (.aload_n 0, 1) := by decide +kernel
theorem dX4_thrown_1 : decode cX4_thrown 1 = .ok (.getfield 12, 3) := by decide +kernel
theorem dX4_thrown_4 : decode cX4_thrown 4 = .ok (.lload_n 1, 1) := by decide +kernel
theorem dX4_thrown_5 : decode cX4_thrown 5 = .ok (.putfield 18, 3) := by decide +kernel
theorem dX4_thrown_8 : decode cX4_thrown 8 = .ok (.aload_n 0, 1) := by decide +kernel
theorem dX4_thrown_9 : decode cX4_thrown 9 = .ok (.getfield 12, 3) := by decide +kernel
theorem dX4_thrown_12 : decode cX4_thrown 12 = .ok (.areturn, 1) := by decide +kernel
theorem dX4_work_0 : decode cX4_work 0 = .ok (.aload_n 1, 1) := by decide +kernel
theorem dX4_work_1 : decode cX4_work 1 = .ok (.getfield 22, 3) := by decide +kernel
theorem dX4_work_4 : decode cX4_work 4 = .ok (.bipush 48, 2) := by decide +kernel
theorem dX4_work_6 : decode cX4_work 6 = .ok (.if_icmp .ne 8, 3) := by decide +kernel
theorem dX4_work_9 : decode cX4_work 9 = .ok (.aload_n 1, 1) := by decide +kernel
theorem dX4_work_10 : decode cX4_work 10 = .ok (.getfield 30, 3) := by decide +kernel
theorem dX4_work_13 : decode cX4_work 13 = .ok (.lreturn, 1) := by decide +kernel
theorem dX4_work_14 : decode cX4_work 14 = .ok (.aload_n 1, 1) := by decide +kernel
theorem dX4_work_15 : decode cX4_work 15 = .ok (.getfield 22, 3) := by decide +kernel
theorem dX4_work_18 : decode cX4_work 18 = .ok (.bipush 97, 2) := by decide +kernel
theorem dX4_work_20 : decode cX4_work 20 = .ok (.if_icmp .ne 14, 3) := by decide +kernel
theorem dX4_work_23 : decode cX4_work 23 = .ok (.aload_n 2, 1) := by decide +kernel
theorem dX4_work_24 : decode cX4_work 24 = .ok (.aload_n 1, 1) := by decide +kernel
theorem dX4_work_25 : decode cX4_work 25 = .ok (.getfield 33, 3) := by decide +kernel
theorem dX4_work_28 : decode cX4_work 28 = .ok (.invokeinterface 37 2, 5) := by decide +kernel
theorem dX4_work_33 : decode cX4_work 33 = .ok (.lreturn, 1) := by decide +kernel
theorem dX4_work_34 : decode cX4_work 34 = .ok (.aload_n 0, 1) := by decide +kernel
theorem dX4_work_35 : decode cX4_work 35 = .ok (.aload_n 1, 1) := by decide +kernel
theorem dX4_work_36 : decode cX4_work 36 = .ok (.getfield 43, 3) := by decide +kernel
theorem dX4_work_39 : decode cX4_work 39 = .ok (.aload_n 2, 1) := by decide +kernel
theorem dX4_work_40 : decode cX4_work 40 = .ok (.invokevirtual 47, 3) := by decide +kernel
theorem dX4_work_43 : decode cX4_work 43 = .ok (.lstore_n 3, 1) := by decide +kernel
theorem dX4_work_44 : decode cX4_work 44 = .ok (.aload_n 1, 1) := by decide +kernel
theorem dX4_work_45 : decode cX4_work 45 = .ok (.getfield 22, 3) := by decide +kernel
theorem dX4_work_48 : decode cX4_work 48 = .ok (.bipush 126, 2) := by decide +kernel
theorem dX4_work_50 : decode cX4_work 50 = .ok (.if_icmp .ne 6, 3) := by decide +kernel
theorem dX4_work_53 : decode cX4_work 53 = .ok (.lload_n 3, 1) := by decide +kernel
theorem dX4_work_54 : decode cX4_work 54 = .ok (.lneg, 1) := by decide +kernel
theorem dX4_work_55 : decode cX4_work 55 = .ok (.lreturn, 1) := by decide +kernel
theorem dX4_work_56 : decode cX4_work 56 = .ok (.aload_n 0, 1) := by decide +kernel
theorem dX4_work_57 : decode cX4_work 57 = .ok (.aload_n 1, 1) := by decide +kernel
theorem dX4_work_58 : decode cX4_work 58 = .ok (.getfield 51, 3) := by decide +kernel
theorem dX4_work_61 : decode cX4_work 61 = .ok (.aload_n 2, 1) := by decide +kernel
theorem dX4_work_62 : decode cX4_work 62 = .ok (.invokevirtual 47, 3) := by decide +kernel
theorem dX4_work_65 : decode cX4_work 65 = .ok (.lstore 5, 2) := by decide +kernel
theorem dX4_work_67 : decode cX4_work 67 = .ok (.aload_n 1, 1) := by decide +kernel
theorem dX4_work_68 : decode cX4_work 68 = .ok (.getfield 22, 3) := by decide +kernel
theorem dX4_work_71 : decode cX4_work 71 = .ok (.lookupswitch 111 #[(35, 98), (42, 67), (43, 57), (45, 62), (60, 72), (61, 85)], 57) := by decide +kernel
theorem dX4_work_128 : decode cX4_work 128 = .ok (.lload_n 3, 1) := by decide +kernel
theorem dX4_work_129 : decode cX4_work 129 = .ok (.lload 5, 2) := by decide +kernel
theorem dX4_work_131 : decode cX4_work 131 = .ok (.ladd, 1) := by decide +kernel
theorem dX4_work_132 : decode cX4_work 132 = .ok (.lreturn, 1) := by decide +kernel
theorem dX4_work_133 : decode cX4_work 133 = .ok (.lload_n 3, 1) := by decide +kernel
theorem dX4_work_134 : decode cX4_work 134 = .ok (.lload 5, 2) := by decide +kernel
theorem dX4_work_136 : decode cX4_work 136 = .ok (.lsub, 1) := by decide +kernel
theorem dX4_work_137 : decode cX4_work 137 = .ok (.lreturn, 1) := by decide +kernel
theorem dX4_work_138 : decode cX4_work 138 = .ok (.lload_n 3, 1) := by decide +kernel
theorem dX4_work_139 : decode cX4_work 139 = .ok (.lload 5, 2) := by decide +kernel
theorem dX4_work_141 : decode cX4_work 141 = .ok (.lmul, 1) := by decide +kernel
theorem dX4_work_142 : decode cX4_work 142 = .ok (.lreturn, 1) := by decide +kernel
theorem dX4_work_143 : decode cX4_work 143 = .ok (.lload_n 3, 1) := by decide +kernel
theorem dX4_work_144 : decode cX4_work 144 = .ok (.lload 5, 2) := by decide +kernel
theorem dX4_work_146 : decode cX4_work 146 = .ok (.lcmp, 1) := by decide +kernel
theorem dX4_work_147 : decode cX4_work 147 = .ok (.ifCond .ge 7, 3) := by decide +kernel
theorem dX4_work_150 : decode cX4_work 150 = .ok (.lconst 1, 1) := by decide +kernel
theorem dX4_work_151 : decode cX4_work 151 = .ok (.goto 4, 3) := by decide +kernel
theorem dX4_work_154 : decode cX4_work 154 = .ok (.lconst 0, 1) := by decide +kernel
theorem dX4_work_155 : decode cX4_work 155 = .ok (.lreturn, 1) := by decide +kernel
theorem dX4_work_156 : decode cX4_work 156 = .ok (.lload_n 3, 1) := by decide +kernel
theorem dX4_work_157 : decode cX4_work 157 = .ok (.lload 5, 2) := by decide +kernel
theorem dX4_work_159 : decode cX4_work 159 = .ok (.lcmp, 1) := by decide +kernel
theorem dX4_work_160 : decode cX4_work 160 = .ok (.ifCond .ne 7, 3) := by decide +kernel
theorem dX4_work_163 : decode cX4_work 163 = .ok (.lconst 1, 1) := by decide +kernel
theorem dX4_work_164 : decode cX4_work 164 = .ok (.goto 4, 3) := by decide +kernel
theorem dX4_work_167 : decode cX4_work 167 = .ok (.lconst 0, 1) := by decide +kernel
theorem dX4_work_168 : decode cX4_work 168 = .ok (.lreturn, 1) := by decide +kernel
theorem dX4_work_169 : decode cX4_work 169 = .ok (.lload_n 3, 1) := by decide +kernel
theorem dX4_work_170 : decode cX4_work 170 = .ok (.lload 5, 2) := by decide +kernel
theorem dX4_work_172 : decode cX4_work 172 = .ok (.lcmp, 1) := by decide +kernel
theorem dX4_work_173 : decode cX4_work 173 = .ok (.ifCond .eq 7, 3) := by decide +kernel
theorem dX4_work_176 : decode cX4_work 176 = .ok (.lconst 1, 1) := by decide +kernel
theorem dX4_work_177 : decode cX4_work 177 = .ok (.goto 4, 3) := by decide +kernel
theorem dX4_work_180 : decode cX4_work 180 = .ok (.lconst 0, 1) := by decide +kernel
theorem dX4_work_181 : decode cX4_work 181 = .ok (.lreturn, 1) := by decide +kernel
theorem dX4_work_182 : decode cX4_work 182 = .ok (.aload_n 0, 1) := by decide +kernel
theorem dX4_work_183 : decode cX4_work 183 = .ok (.aload_n 1, 1) := by decide +kernel
theorem dX4_work_184 : decode cX4_work 184 = .ok (.getfield 22, 3) := by decide +kernel
theorem dX4_work_187 : decode cX4_work 187 = .ok (.lload_n 3, 1) := by decide +kernel
theorem dX4_work_188 : decode cX4_work 188 = .ok (.lload 5, 2) := by decide +kernel
theorem dX4_work_190 : decode cX4_work 190 = .ok (.invokevirtual 54, 3) := by decide +kernel
theorem dX4_work_193 : decode cX4_work 193 = .ok (.lreturn, 1) := by decide +kernel
theorem dX5_init_0 : decode cX5_init 0 = .ok (.aload_n 0, 1) := by decide +kernel
theorem dX5_init_1 : decode cX5_init 1 = .ok (.ldc 1, 2) := by decide +kernel
theorem dX5_init_3 : decode cX5_init 3 = .ok (.aconst_null, 1) := by decide +kernel
theorem dX5_init_4 : decode cX5_init 4 = .ok (.iconst 0, 1) := by decide +kernel
theorem dX5_init_5 : decode cX5_init 5 = .ok (.iconst 0, 1) := by decide +kernel
theorem dX5_init_6 : decode cX5_init 6 = .ok (.invokespecial 3, 3) := by decide +kernel
theorem dX5_init_9 : decode cX5_init 9 = .ok (.return_, 1) := by decide +kernel
theorem dX6_add_0 : decode cX6_add 0 = .ok (.aload_n 0, 1) := by decide +kernel
theorem dX6_add_1 : decode cX6_add 1 = .ok (.getfield 11, 3) := by decide +kernel
theorem dX6_add_4 : decode cX6_add 4 = .ok (.aload_n 0, 1) := by decide +kernel
theorem dX6_add_5 : decode cX6_add 5 = .ok (.getfield 34, 3) := by decide +kernel
theorem dX6_add_8 : decode cX6_add 8 = .ok (.aload_n 1, 1) := by decide +kernel
theorem dX6_add_9 : decode cX6_add 9 = .ok (.aastore, 1) := by decide +kernel
theorem dX6_add_10 : decode cX6_add 10 = .ok (.aload_n 0, 1) := by decide +kernel
theorem dX6_add_11 : decode cX6_add 11 = .ok (.getfield 17, 3) := by decide +kernel
theorem dX6_add_14 : decode cX6_add 14 = .ok (.aload_n 0, 1) := by decide +kernel
theorem dX6_add_15 : decode cX6_add 15 = .ok (.getfield 34, 3) := by decide +kernel
theorem dX6_add_18 : decode cX6_add 18 = .ok (.iload_n 2, 1) := by decide +kernel
theorem dX6_add_19 : decode cX6_add 19 = .ok (.iastore, 1) := by decide +kernel
theorem dX6_add_20 : decode cX6_add 20 = .ok (.aload_n 0, 1) := by decide +kernel
theorem dX6_add_21 : decode cX6_add 21 = .ok (.getfield 21, 3) := by decide +kernel
theorem dX6_add_24 : decode cX6_add 24 = .ok (.aload_n 0, 1) := by decide +kernel
theorem dX6_add_25 : decode cX6_add 25 = .ok (.getfield 34, 3) := by decide +kernel
theorem dX6_add_28 : decode cX6_add 28 = .ok (.iload_n 3, 1) := by decide +kernel
theorem dX6_add_29 : decode cX6_add 29 = .ok (.iastore, 1) := by decide +kernel
theorem dX6_add_30 : decode cX6_add 30 = .ok (.aload_n 0, 1) := by decide +kernel
theorem dX6_add_31 : decode cX6_add 31 = .ok (.getfield 24, 3) := by decide +kernel
theorem dX6_add_34 : decode cX6_add 34 = .ok (.aload_n 0, 1) := by decide +kernel
theorem dX6_add_35 : decode cX6_add 35 = .ok (.getfield 34, 3) := by decide +kernel
theorem dX6_add_38 : decode cX6_add 38 = .ok (.iload 4, 2) := by decide +kernel
theorem dX6_add_40 : decode cX6_add 40 = .ok (.iastore, 1) := by decide +kernel
theorem dX6_add_41 : decode cX6_add 41 = .ok (.aload_n 0, 1) := by decide +kernel
theorem dX6_add_42 : decode cX6_add 42 = .ok (.getfield 27, 3) := by decide +kernel
theorem dX6_add_45 : decode cX6_add 45 = .ok (.aload_n 0, 1) := by decide +kernel
theorem dX6_add_46 : decode cX6_add 46 = .ok (.getfield 34, 3) := by decide +kernel
theorem dX6_add_49 : decode cX6_add 49 = .ok (.iload 5, 2) := by decide +kernel
theorem dX6_add_51 : decode cX6_add 51 = .ok (.iastore, 1) := by decide +kernel
theorem dX6_add_52 : decode cX6_add 52 = .ok (.aload_n 0, 1) := by decide +kernel
theorem dX6_add_53 : decode cX6_add 53 = .ok (.getfield 30, 3) := by decide +kernel
theorem dX6_add_56 : decode cX6_add 56 = .ok (.aload_n 0, 1) := by decide +kernel
theorem dX6_add_57 : decode cX6_add 57 = .ok (.getfield 34, 3) := by decide +kernel
theorem dX6_add_60 : decode cX6_add 60 = .ok (.lload 6, 2) := by decide +kernel
theorem dX6_add_62 : decode cX6_add 62 = .ok (.lastore, 1) := by decide +kernel
theorem dX6_add_63 : decode cX6_add 63 = .ok (.aload_n 0, 1) := by decide +kernel
theorem dX6_add_64 : decode cX6_add 64 = .ok (.dup, 1) := by decide +kernel
theorem dX6_add_65 : decode cX6_add 65 = .ok (.getfield 34, 3) := by decide +kernel
theorem dX6_add_68 : decode cX6_add 68 = .ok (.iconst 1, 1) := by decide +kernel
theorem dX6_add_69 : decode cX6_add 69 = .ok (.iadd, 1) := by decide +kernel
theorem dX6_add_70 : decode cX6_add 70 = .ok (.putfield 34, 3) := by decide +kernel
theorem dX6_add_73 : decode cX6_add 73 = .ok (.return_, 1) := by decide +kernel
theorem dX6_init_0 : decode cX6_init 0 = .ok (.aload_n 0, 1) := by decide +kernel
theorem dX6_init_1 : decode cX6_init 1 = .ok (.invokespecial 3, 3) := by decide +kernel
theorem dX6_init_4 : decode cX6_init 4 = .ok (.aload_n 0, 1) := by decide +kernel
theorem dX6_init_5 : decode cX6_init 5 = .ok (.sipush 300, 3) := by decide +kernel
theorem dX6_init_8 : decode cX6_init 8 = .ok (.anewarray 9, 3) := by decide +kernel
theorem dX6_init_11 : decode cX6_init 11 = .ok (.putfield 11, 3) := by decide +kernel
theorem dX6_init_14 : decode cX6_init 14 = .ok (.aload_n 0, 1) := by decide +kernel
theorem dX6_init_15 : decode cX6_init 15 = .ok (.sipush 300, 3) := by decide +kernel
theorem dX6_init_18 : decode cX6_init 18 = .ok (.newarray .int, 2) := by decide +kernel
theorem dX6_init_20 : decode cX6_init 20 = .ok (.putfield 17, 3) := by decide +kernel
theorem dX6_init_23 : decode cX6_init 23 = .ok (.aload_n 0, 1) := by decide +kernel
theorem dX6_init_24 : decode cX6_init 24 = .ok (.sipush 300, 3) := by decide +kernel
theorem dX6_init_27 : decode cX6_init 27 = .ok (.newarray .int, 2) := by decide +kernel
theorem dX6_init_29 : decode cX6_init 29 = .ok (.putfield 21, 3) := by decide +kernel
theorem dX6_init_32 : decode cX6_init 32 = .ok (.aload_n 0, 1) := by decide +kernel
theorem dX6_init_33 : decode cX6_init 33 = .ok (.sipush 300, 3) := by decide +kernel
theorem dX6_init_36 : decode cX6_init 36 = .ok (.newarray .int, 2) := by decide +kernel
theorem dX6_init_38 : decode cX6_init 38 = .ok (.putfield 24, 3) := by decide +kernel
theorem dX6_init_41 : decode cX6_init 41 = .ok (.aload_n 0, 1) := by decide +kernel
theorem dX6_init_42 : decode cX6_init 42 = .ok (.sipush 300, 3) := by decide +kernel
theorem dX6_init_45 : decode cX6_init 45 = .ok (.newarray .int, 2) := by decide +kernel
theorem dX6_init_47 : decode cX6_init 47 = .ok (.putfield 27, 3) := by decide +kernel
theorem dX6_init_50 : decode cX6_init 50 = .ok (.aload_n 0, 1) := by decide +kernel
theorem dX6_init_51 : decode cX6_init 51 = .ok (.sipush 300, 3) := by decide +kernel
theorem dX6_init_54 : decode cX6_init 54 = .ok (.newarray .long, 2) := by decide +kernel
theorem dX6_init_56 : decode cX6_init 56 = .ok (.putfield 30, 3) := by decide +kernel
theorem dX6_init_59 : decode cX6_init 59 = .ok (.return_, 1) := by decide +kernel
theorem dX7_act_0 : decode cX7_act 0 = .ok (.aload_n 1, 1) := by decide +kernel
theorem dX7_act_1 : decode cX7_act 1 = .ok (.getfield 120, 3) := by decide +kernel
theorem dX7_act_4 : decode cX7_act 4 = .ok (.invokevirtual 190, 3) := by decide +kernel
theorem dX7_act_7 : decode cX7_act 7 = .ok (.tableswitch 252 0 7 #[45, 81, 137, 252, 186, 177, 177, 212], 45) := by decide +kernel
theorem dX7_act_52 : decode cX7_act 52 = .ok (.aload_n 0, 1) := by decide +kernel
theorem dX7_act_53 : decode cX7_act 53 = .ok (.getfield 55, 3) := by decide +kernel
theorem dX7_act_56 : decode cX7_act 56 = .ok (.getfield 194, 3) := by decide +kernel
theorem dX7_act_59 : decode cX7_act 59 = .ok (.aload_n 1, 1) := by decide +kernel
theorem dX7_act_60 : decode cX7_act 60 = .ok (.getfield 198, 3) := by decide +kernel
theorem dX7_act_63 : decode cX7_act 63 = .ok (.aload_n 0, 1) := by decide +kernel
theorem dX7_act_64 : decode cX7_act 64 = .ok (.invokevirtual 202, 3) := by decide +kernel
theorem dX7_act_67 : decode cX7_act 67 = .ok (.lstore_n 2, 1) := by decide +kernel
theorem dX7_act_68 : decode cX7_act 68 = .ok (.aload_n 0, 1) := by decide +kernel
theorem dX7_act_69 : decode cX7_act 69 = .ok (.aload_n 1, 1) := by decide +kernel
theorem dX7_act_70 : decode cX7_act 70 = .ok (.getfield 174, 3) := by decide +kernel
theorem dX7_act_73 : decode cX7_act 73 = .ok (.lload_n 2, 1) := by decide +kernel
theorem dX7_act_74 : decode cX7_act 74 = .ok (.invokevirtual 177, 3) := by decide +kernel
theorem dX7_act_77 : decode cX7_act 77 = .ok (.aload_n 0, 1) := by decide +kernel
theorem dX7_act_78 : decode cX7_act 78 = .ok (.aload_n 1, 1) := by decide +kernel
theorem dX7_act_79 : decode cX7_act 79 = .ok (.getfield 129, 3) := by decide +kernel
theorem dX7_act_82 : decode cX7_act 82 = .ok (.putfield 75, 3) := by decide +kernel
theorem dX7_act_85 : decode cX7_act 85 = .ok (.goto 193, 3) := by decide +kernel
theorem dX7_act_88 : decode cX7_act 88 = .ok (.aload_n 0, 1) := by decide +kernel
theorem dX7_act_89 : decode cX7_act 89 = .ok (.getfield 55, 3) := by decide +kernel
theorem dX7_act_92 : decode cX7_act 92 = .ok (.getfield 194, 3) := by decide +kernel
theorem dX7_act_95 : decode cX7_act 95 = .ok (.aload_n 1, 1) := by decide +kernel
theorem dX7_act_96 : decode cX7_act 96 = .ok (.getfield 198, 3) := by decide +kernel
theorem dX7_act_99 : decode cX7_act 99 = .ok (.aload_n 0, 1) := by decide +kernel
theorem dX7_act_100 : decode cX7_act 100 = .ok (.invokevirtual 202, 3) := by decide +kernel
theorem dX7_act_103 : decode cX7_act 103 = .ok (.lconst 0, 1) := by decide +kernel
theorem dX7_act_104 : decode cX7_act 104 = .ok (.lcmp, 1) := by decide +kernel
theorem dX7_act_105 : decode cX7_act 105 = .ok (.ifCond .eq 12, 3) := by decide +kernel
theorem dX7_act_108 : decode cX7_act 108 = .ok (.aload_n 0, 1) := by decide +kernel
theorem dX7_act_109 : decode cX7_act 109 = .ok (.aload_n 1, 1) := by decide +kernel
theorem dX7_act_110 : decode cX7_act 110 = .ok (.iconst 1, 1) := by decide +kernel
theorem dX7_act_111 : decode cX7_act 111 = .ok (.invokevirtual 130, 3) := by decide +kernel
theorem dX7_act_114 : decode cX7_act 114 = .ok (.goto 164, 3) := by decide +kernel
theorem dX7_act_117 : decode cX7_act 117 = .ok (.aload_n 1, 1) := by decide +kernel
theorem dX7_act_118 : decode cX7_act 118 = .ok (.getfield 117, 3) := by decide +kernel
theorem dX7_act_121 : decode cX7_act 121 = .ok (.ifnull 12, 3) := by decide +kernel
theorem dX7_act_124 : decode cX7_act 124 = .ok (.aload_n 0, 1) := by decide +kernel
theorem dX7_act_125 : decode cX7_act 125 = .ok (.aload_n 1, 1) := by decide +kernel
theorem dX7_act_126 : decode cX7_act 126 = .ok (.iconst 0, 1) := by decide +kernel
theorem dX7_act_127 : decode cX7_act 127 = .ok (.invokevirtual 130, 3) := by decide +kernel
theorem dX7_act_130 : decode cX7_act 130 = .ok (.goto 148, 3) := by decide +kernel
theorem dX7_act_133 : decode cX7_act 133 = .ok (.aload_n 0, 1) := by decide +kernel
theorem dX7_act_134 : decode cX7_act 134 = .ok (.aload_n 1, 1) := by decide +kernel
theorem dX7_act_135 : decode cX7_act 135 = .ok (.getfield 129, 3) := by decide +kernel
theorem dX7_act_138 : decode cX7_act 138 = .ok (.putfield 75, 3) := by decide +kernel
theorem dX7_act_141 : decode cX7_act 141 = .ok (.goto 137, 3) := by decide +kernel
theorem dX7_act_144 : decode cX7_act 144 = .ok (.aload_n 0, 1) := by decide +kernel
theorem dX7_act_145 : decode cX7_act 145 = .ok (.getfield 55, 3) := by decide +kernel
theorem dX7_act_148 : decode cX7_act 148 = .ok (.getfield 194, 3) := by decide +kernel
theorem dX7_act_151 : decode cX7_act 151 = .ok (.aload_n 1, 1) := by decide +kernel
theorem dX7_act_152 : decode cX7_act 152 = .ok (.getfield 198, 3) := by decide +kernel
theorem dX7_act_155 : decode cX7_act 155 = .ok (.aload_n 0, 1) := by decide +kernel
theorem dX7_act_156 : decode cX7_act 156 = .ok (.invokevirtual 202, 3) := by decide +kernel
theorem dX7_act_159 : decode cX7_act 159 = .ok (.lconst 0, 1) := by decide +kernel
theorem dX7_act_160 : decode cX7_act 160 = .ok (.lcmp, 1) := by decide +kernel
theorem dX7_act_161 : decode cX7_act 161 = .ok (.ifCond .eq 12, 3) := by decide +kernel
theorem dX7_act_164 : decode cX7_act 164 = .ok (.aload_n 0, 1) := by decide +kernel
theorem dX7_act_165 : decode cX7_act 165 = .ok (.aload_n 1, 1) := by decide +kernel
theorem dX7_act_166 : decode cX7_act 166 = .ok (.iconst 1, 1) := by decide +kernel
theorem dX7_act_167 : decode cX7_act 167 = .ok (.invokevirtual 130, 3) := by decide +kernel
theorem dX7_act_170 : decode cX7_act 170 = .ok (.goto 108, 3) := by decide +kernel
theorem dX7_act_173 : decode cX7_act 173 = .ok (.aload_n 0, 1) := by decide +kernel
theorem dX7_act_174 : decode cX7_act 174 = .ok (.aload_n 1, 1) := by decide +kernel
theorem dX7_act_175 : decode cX7_act 175 = .ok (.getfield 129, 3) := by decide +kernel
theorem dX7_act_178 : decode cX7_act 178 = .ok (.putfield 75, 3) := by decide +kernel
theorem dX7_act_181 : decode cX7_act 181 = .ok (.goto 97, 3) := by decide +kernel
theorem dX7_act_184 : decode cX7_act 184 = .ok (.aload_n 0, 1) := by decide +kernel
theorem dX7_act_185 : decode cX7_act 185 = .ok (.aload_n 1, 1) := by decide +kernel
theorem dX7_act_186 : decode cX7_act 186 = .ok (.iconst 1, 1) := by decide +kernel
theorem dX7_act_187 : decode cX7_act 187 = .ok (.invokevirtual 130, 3) := by decide +kernel
theorem dX7_act_190 : decode cX7_act 190 = .ok (.goto 88, 3) := by decide +kernel
theorem dX7_act_193 : decode cX7_act 193 = .ok (.aload_n 0, 1) := by decide +kernel
theorem dX7_act_194 : decode cX7_act 194 = .ok (.getfield 55, 3) := by decide +kernel
theorem dX7_act_197 : decode cX7_act 197 = .ok (.getfield 194, 3) := by decide +kernel
theorem dX7_act_200 : decode cX7_act 200 = .ok (.aload_n 0, 1) := by decide +kernel
theorem dX7_act_201 : decode cX7_act 201 = .ok (.getfield 55, 3) := by decide +kernel
theorem dX7_act_204 : decode cX7_act 204 = .ok (.getfield 194, 3) := by decide +kernel
theorem dX7_act_207 : decode cX7_act 207 = .ok (.aload_n 1, 1) := by decide +kernel
theorem dX7_act_208 : decode cX7_act 208 = .ok (.getfield 198, 3) := by decide +kernel
theorem dX7_act_211 : decode cX7_act 211 = .ok (.aload_n 0, 1) := by decide +kernel
theorem dX7_act_212 : decode cX7_act 212 = .ok (.invokevirtual 202, 3) := by decide +kernel
theorem dX7_act_215 : decode cX7_act 215 = .ok (.invokevirtual 208, 3) := by decide +kernel
theorem dX7_act_218 : decode cX7_act 218 = .ok (.athrow, 1) := by decide +kernel
theorem dX7_act_219 : decode cX7_act 219 = .ok (.aload_n 0, 1) := by decide +kernel
theorem dX7_act_220 : decode cX7_act 220 = .ok (.getfield 27, 3) := by decide +kernel
theorem dX7_act_223 : decode cX7_act 223 = .ok (.aload_n 0, 1) := by decide +kernel
theorem dX7_act_224 : decode cX7_act 224 = .ok (.getfield 21, 3) := by decide +kernel
theorem dX7_act_227 : decode cX7_act 227 = .ok (.getfield 212, 3) := by decide +kernel
theorem dX7_act_230 : decode cX7_act 230 = .ok (.aload_n 1, 1) := by decide +kernel
theorem dX7_act_231 : decode cX7_act 231 = .ok (.getfield 198, 3) := by decide +kernel
theorem dX7_act_234 : decode cX7_act 234 = .ok (.aastore, 1) := by decide +kernel
theorem dX7_act_235 : decode cX7_act 235 = .ok (.aload_n 0, 1) := by decide +kernel
theorem dX7_act_236 : decode cX7_act 236 = .ok (.getfield 21, 3) := by decide +kernel
theorem dX7_act_239 : decode cX7_act 239 = .ok (.dup, 1) := by decide +kernel
theorem dX7_act_240 : decode cX7_act 240 = .ok (.getfield 212, 3) := by decide +kernel
theorem dX7_act_243 : decode cX7_act 243 = .ok (.iconst 1, 1) := by decide +kernel
theorem dX7_act_244 : decode cX7_act 244 = .ok (.iadd, 1) := by decide +kernel
theorem dX7_act_245 : decode cX7_act 245 = .ok (.putfield 212, 3) := by decide +kernel
theorem dX7_act_248 : decode cX7_act 248 = .ok (.aload_n 0, 1) := by decide +kernel
theorem dX7_act_249 : decode cX7_act 249 = .ok (.aload_n 1, 1) := by decide +kernel
theorem dX7_act_250 : decode cX7_act 250 = .ok (.getfield 129, 3) := by decide +kernel
theorem dX7_act_253 : decode cX7_act 253 = .ok (.putfield 75, 3) := by decide +kernel
theorem dX7_act_256 : decode cX7_act 256 = .ok (.goto 22, 3) := by decide +kernel
theorem dX7_act_259 : decode cX7_act 259 = .ok (.aload_n 0, 1) := by decide +kernel
theorem dX7_act_260 : decode cX7_act 260 = .ok (.aload_n 0, 1) := by decide +kernel
theorem dX7_act_261 : decode cX7_act 261 = .ok (.getstatic 214, 3) := by decide +kernel
theorem dX7_act_264 : decode cX7_act 264 = .ok (.invokevirtual 170, 3) := by decide +kernel
theorem dX7_act_267 : decode cX7_act 267 = .ok (.ifCond .ne 7, 3) := by decide +kernel
theorem dX7_act_270 : decode cX7_act 270 = .ok (.iconst 1, 1) := by decide +kernel
theorem dX7_act_271 : decode cX7_act 271 = .ok (.goto 4, 3) := by decide +kernel
theorem dX7_act_274 : decode cX7_act 274 = .ok (.iconst 0, 1) := by decide +kernel
theorem dX7_act_275 : decode cX7_act 275 = .ok (.putfield 181, 3) := by decide +kernel
theorem dX7_act_278 : decode cX7_act 278 = .ok (.return_, 1) := by decide +kernel
theorem dX7_begin_0 : decode cX7_begin 0 = .ok (.aload_n 0, 1) := by decide +kernel
theorem dX7_begin_1 : decode cX7_begin 1 = .ok (.aload_n 1, 1) := by decide +kernel
theorem dX7_begin_2 : decode cX7_begin 2 = .ok (.putfield 55, 3) := by decide +kernel
theorem dX7_begin_5 : decode cX7_begin 5 = .ok (.aload_n 0, 1) := by decide +kernel
theorem dX7_begin_6 : decode cX7_begin 6 = .ok (.getfield 21, 3) := by decide +kernel
theorem dX7_begin_9 : decode cX7_begin 9 = .ok (.invokevirtual 59, 3) := by decide +kernel
theorem dX7_begin_12 : decode cX7_begin 12 = .ok (.aload_n 0, 1) := by decide +kernel
theorem dX7_begin_13 : decode cX7_begin 13 = .ok (.iconst 0, 1) := by decide +kernel
theorem dX7_begin_14 : decode cX7_begin 14 = .ok (.putfield 62, 3) := by decide +kernel
theorem dX7_begin_17 : decode cX7_begin 17 = .ok (.aload_n 0, 1) := by decide +kernel
theorem dX7_begin_18 : decode cX7_begin 18 = .ok (.iconst 0, 1) := by decide +kernel
theorem dX7_begin_19 : decode cX7_begin 19 = .ok (.putfield 66, 3) := by decide +kernel
theorem dX7_begin_22 : decode cX7_begin 22 = .ok (.aload_n 0, 1) := by decide +kernel
theorem dX7_begin_23 : decode cX7_begin 23 = .ok (.aload_n 2, 1) := by decide +kernel
theorem dX7_begin_24 : decode cX7_begin 24 = .ok (.getfield 69, 3) := by decide +kernel
theorem dX7_begin_27 : decode cX7_begin 27 = .ok (.putfield 75, 3) := by decide +kernel
theorem dX7_begin_30 : decode cX7_begin 30 = .ok (.aload_n 0, 1) := by decide +kernel
theorem dX7_begin_31 : decode cX7_begin 31 = .ok (.iconst 0, 1) := by decide +kernel
theorem dX7_begin_32 : decode cX7_begin 32 = .ok (.putfield 78, 3) := by decide +kernel
theorem dX7_begin_35 : decode cX7_begin 35 = .ok (.return_, 1) := by decide +kernel
theorem dX7_ends_0 : decode cX7_ends 0 = .ok (.aload_n 0, 1) := by decide +kernel
theorem dX7_ends_1 : decode cX7_ends 1 = .ok (.invokevirtual 93, 3) := by decide +kernel
theorem dX7_ends_4 : decode cX7_ends 4 = .ok (.ifCond .eq 7, 3) := by decide +kernel
theorem dX7_ends_7 : decode cX7_ends 7 = .ok (.aload_n 1, 1) := by decide +kernel
theorem dX7_ends_8 : decode cX7_ends 8 = .ok (.goto 6, 3) := by decide +kernel
theorem dX7_ends_11 : decode cX7_ends 11 = .ok (.getstatic 161, 3) := by decide +kernel
theorem dX7_ends_14 : decode cX7_ends 14 = .ok (.areturn, 1) := by decide +kernel
theorem dX7_enter_0 : decode cX7_enter 0 = .ok (.aload_n 0, 1) := by decide +kernel
theorem dX7_enter_1 : decode cX7_enter 1 = .ok (.getfield 41, 3) := by decide +kernel
theorem dX7_enter_4 : decode cX7_enter 4 = .ok (.aload_n 0, 1) := by decide +kernel
theorem dX7_enter_5 : decode cX7_enter 5 = .ok (.getfield 66, 3) := by decide +kernel
theorem dX7_enter_8 : decode cX7_enter 8 = .ok (.aaload, 1) := by decide +kernel
theorem dX7_enter_9 : decode cX7_enter 9 = .ok (.astore_n 3, 1) := by decide +kernel
theorem dX7_enter_10 : decode cX7_enter 10 = .ok (.aload_n 3, 1) := by decide +kernel
theorem dX7_enter_11 : decode cX7_enter 11 = .ok (.aload_n 1, 1) := by decide +kernel
theorem dX7_enter_12 : decode cX7_enter 12 = .ok (.putfield 100, 3) := by decide +kernel
theorem dX7_enter_15 : decode cX7_enter 15 = .ok (.aload_n 3, 1) := by decide +kernel
theorem dX7_enter_16 : decode cX7_enter 16 = .ok (.iload_n 2, 1) := by decide +kernel
theorem dX7_enter_17 : decode cX7_enter 17 = .ok (.putfield 103, 3) := by decide +kernel
theorem dX7_enter_20 : decode cX7_enter 20 = .ok (.aload_n 3, 1) := by decide +kernel
theorem dX7_enter_21 : decode cX7_enter 21 = .ok (.getfield 107, 3) := by decide +kernel
theorem dX7_enter_24 : decode cX7_enter 24 = .ok (.aload_n 0, 1) := by decide +kernel
theorem dX7_enter_25 : decode cX7_enter 25 = .ok (.getfield 21, 3) := by decide +kernel
theorem dX7_enter_28 : decode cX7_enter 28 = .ok (.invokevirtual 110, 3) := by decide +kernel
theorem dX7_enter_31 : decode cX7_enter 31 = .ok (.aload_n 0, 1) := by decide +kernel
theorem dX7_enter_32 : decode cX7_enter 32 = .ok (.dup, 1) := by decide +kernel
theorem dX7_enter_33 : decode cX7_enter 33 = .ok (.getfield 66, 3) := by decide +kernel
theorem dX7_enter_36 : decode cX7_enter 36 = .ok (.iconst 1, 1) := by decide +kernel
theorem dX7_enter_37 : decode cX7_enter 37 = .ok (.iadd, 1) := by decide +kernel
theorem dX7_enter_38 : decode cX7_enter 38 = .ok (.putfield 66, 3) := by decide +kernel
theorem dX7_enter_41 : decode cX7_enter 41 = .ok (.aload_n 0, 1) := by decide +kernel
theorem dX7_enter_42 : decode cX7_enter 42 = .ok (.iload_n 2, 1) := by decide +kernel
theorem dX7_enter_43 : decode cX7_enter 43 = .ok (.ifCond .eq 10, 3) := by decide +kernel
theorem dX7_enter_46 : decode cX7_enter 46 = .ok (.aload_n 1, 1) := by decide +kernel
theorem dX7_enter_47 : decode cX7_enter 47 = .ok (.getfield 114, 3) := by decide +kernel
theorem dX7_enter_50 : decode cX7_enter 50 = .ok (.goto 7, 3) := by decide +kernel
theorem dX7_enter_53 : decode cX7_enter 53 = .ok (.aload_n 1, 1) := by decide +kernel
theorem dX7_enter_54 : decode cX7_enter 54 = .ok (.getfield 117, 3) := by decide +kernel
theorem dX7_enter_57 : decode cX7_enter 57 = .ok (.putfield 75, 3) := by decide +kernel
theorem dX7_enter_60 : decode cX7_enter 60 = .ok (.return_, 1) := by decide +kernel
theorem dX7_goBack_0 : decode cX7_goBack 0 = .ok (.aload_n 0, 1) := by decide +kernel
theorem dX7_goBack_1 : decode cX7_goBack 1 = .ok (.getfield 66, 3) := by decide +kernel
theorem dX7_goBack_4 : decode cX7_goBack 4 = .ok (.iconst 1, 1) := by decide +kernel
theorem dX7_goBack_5 : decode cX7_goBack 5 = .ok (.isub, 1) := by decide +kernel
theorem dX7_goBack_6 : decode cX7_goBack 6 = .ok (.istore_n 2, 1) := by decide +kernel
theorem dX7_goBack_7 : decode cX7_goBack 7 = .ok (.iload_n 2, 1) := by decide +kernel
theorem dX7_goBack_8 : decode cX7_goBack 8 = .ok (.ifCond .lt 37, 3) := by decide +kernel
theorem dX7_goBack_11 : decode cX7_goBack 11 = .ok (.aload_n 0, 1) := by decide +kernel
theorem dX7_goBack_12 : decode cX7_goBack 12 = .ok (.getfield 41, 3) := by decide +kernel
theorem dX7_goBack_15 : decode cX7_goBack 15 = .ok (.iload_n 2, 1) := by decide +kernel
theorem dX7_goBack_16 : decode cX7_goBack 16 = .ok (.aaload, 1) := by decide +kernel
theorem dX7_goBack_17 : decode cX7_goBack 17 = .ok (.getfield 100, 3) := by decide +kernel
theorem dX7_goBack_20 : decode cX7_goBack 20 = .ok (.getfield 120, 3) := by decide +kernel
theorem dX7_goBack_23 : decode cX7_goBack 23 = .ok (.aload_n 1, 1) := by decide +kernel
theorem dX7_goBack_24 : decode cX7_goBack 24 = .ok (.if_acmp .ne 15, 3) := by decide +kernel
theorem dX7_goBack_27 : decode cX7_goBack 27 = .ok (.aload_n 0, 1) := by decide +kernel
theorem dX7_goBack_28 : decode cX7_goBack 28 = .ok (.getfield 41, 3) := by decide +kernel
theorem dX7_goBack_31 : decode cX7_goBack 31 = .ok (.iload_n 2, 1) := by decide +kernel
theorem dX7_goBack_32 : decode cX7_goBack 32 = .ok (.aaload, 1) := by decide +kernel
theorem dX7_goBack_33 : decode cX7_goBack 33 = .ok (.getfield 103, 3) := by decide +kernel
theorem dX7_goBack_36 : decode cX7_goBack 36 = .ok (.ifCond .ne 9, 3) := by decide +kernel
theorem dX7_goBack_39 : decode cX7_goBack 39 = .ok (.iinc 2 (-1), 3) := by decide +kernel
theorem dX7_goBack_42 : decode cX7_goBack 42 = .ok (.goto (-35), 3) := by decide +kernel
theorem dX7_goBack_45 : decode cX7_goBack 45 = .ok (.iload_n 2, 1) := by decide +kernel
theorem dX7_goBack_46 : decode cX7_goBack 46 = .ok (.ifCond .ge 5, 3) := by decide +kernel
theorem dX7_goBack_49 : decode cX7_goBack 49 = .ok (.iconst 0, 1) := by decide +kernel
theorem dX7_goBack_50 : decode cX7_goBack 50 = .ok (.ireturn, 1) := by decide +kernel
theorem dX7_goBack_51 : decode cX7_goBack 51 = .ok (.aload_n 0, 1) := by decide +kernel
theorem dX7_goBack_52 : decode cX7_goBack 52 = .ok (.iload_n 2, 1) := by decide +kernel
theorem dX7_goBack_53 : decode cX7_goBack 53 = .ok (.putfield 66, 3) := by decide +kernel
theorem dX7_goBack_56 : decode cX7_goBack 56 = .ok (.aload_n 0, 1) := by decide +kernel
theorem dX7_goBack_57 : decode cX7_goBack 57 = .ok (.getfield 21, 3) := by decide +kernel
theorem dX7_goBack_60 : decode cX7_goBack 60 = .ok (.aload_n 0, 1) := by decide +kernel
theorem dX7_goBack_61 : decode cX7_goBack 61 = .ok (.getfield 41, 3) := by decide +kernel
theorem dX7_goBack_64 : decode cX7_goBack 64 = .ok (.iload_n 2, 1) := by decide +kernel
theorem dX7_goBack_65 : decode cX7_goBack 65 = .ok (.aaload, 1) := by decide +kernel
theorem dX7_goBack_66 : decode cX7_goBack 66 = .ok (.getfield 107, 3) := by decide +kernel
theorem dX7_goBack_69 : decode cX7_goBack 69 = .ok (.invokevirtual 110, 3) := by decide +kernel
theorem dX7_goBack_72 : decode cX7_goBack 72 = .ok (.aload_n 0, 1) := by decide +kernel
theorem dX7_goBack_73 : decode cX7_goBack 73 = .ok (.aload_n 0, 1) := by decide +kernel
theorem dX7_goBack_74 : decode cX7_goBack 74 = .ok (.getfield 41, 3) := by decide +kernel
theorem dX7_goBack_77 : decode cX7_goBack 77 = .ok (.iload_n 2, 1) := by decide +kernel
theorem dX7_goBack_78 : decode cX7_goBack 78 = .ok (.aaload, 1) := by decide +kernel
theorem dX7_goBack_79 : decode cX7_goBack 79 = .ok (.getfield 100, 3) := by decide +kernel
theorem dX7_goBack_82 : decode cX7_goBack 82 = .ok (.iconst 0, 1) := by decide +kernel
theorem dX7_goBack_83 : decode cX7_goBack 83 = .ok (.invokevirtual 130, 3) := by decide +kernel
theorem dX7_goBack_86 : decode cX7_goBack 86 = .ok (.iconst 1, 1) := by decide +kernel
theorem dX7_goBack_87 : decode cX7_goBack 87 = .ok (.ireturn, 1) := by decide +kernel
theorem dX7_hold_0 : decode cX7_hold 0 = .ok (.aload_n 0, 1) := by decide +kernel
theorem dX7_hold_1 : decode cX7_hold 1 = .ok (.getfield 55, 3) := by decide +kernel
theorem dX7_hold_4 : decode cX7_hold 4 = .ok (.getfield 217, 3) := by decide +kernel
theorem dX7_hold_7 : decode cX7_hold 7 = .ok (.aload_n 0, 1) := by decide +kernel
theorem dX7_hold_8 : decode cX7_hold 8 = .ok (.getfield 21, 3) := by decide +kernel
theorem dX7_hold_11 : decode cX7_hold 11 = .ok (.getfield 212, 3) := by decide +kernel
theorem dX7_hold_14 : decode cX7_hold 14 = .ok (.iadd, 1) := by decide +kernel
theorem dX7_hold_15 : decode cX7_hold 15 = .ok (.bipush 32, 2) := by decide +kernel
theorem dX7_hold_17 : decode cX7_hold 17 = .ok (.if_icmp .gt 21, 3) := by decide +kernel
theorem dX7_hold_20 : decode cX7_hold 20 = .ok (.aload_n 0, 1) := by decide +kernel
theorem dX7_hold_21 : decode cX7_hold 21 = .ok (.getfield 55, 3) := by decide +kernel
theorem dX7_hold_24 : decode cX7_hold 24 = .ok (.aload_n 0, 1) := by decide +kernel
theorem dX7_hold_25 : decode cX7_hold 25 = .ok (.getfield 50, 3) := by decide +kernel
theorem dX7_hold_28 : decode cX7_hold 28 = .ok (.invokevirtual 220, 3) := by decide +kernel
theorem dX7_hold_31 : decode cX7_hold 31 = .ok (.ifCond .eq 7, 3) := by decide +kernel
theorem dX7_hold_34 : decode cX7_hold 34 = .ok (.iconst 1, 1) := by decide +kernel
theorem dX7_hold_35 : decode cX7_hold 35 = .ok (.goto 4, 3) := by decide +kernel
theorem dX7_hold_38 : decode cX7_hold 38 = .ok (.iconst 0, 1) := by decide +kernel
theorem dX7_hold_39 : decode cX7_hold 39 = .ok (.istore_n 1, 1) := by decide +kernel
theorem dX7_hold_40 : decode cX7_hold 40 = .ok (.iconst 0, 1) := by decide +kernel
theorem dX7_hold_41 : decode cX7_hold 41 = .ok (.istore_n 2, 1) := by decide +kernel
theorem dX7_hold_42 : decode cX7_hold 42 = .ok (.iload_n 2, 1) := by decide +kernel
theorem dX7_hold_43 : decode cX7_hold 43 = .ok (.aload_n 0, 1) := by decide +kernel
theorem dX7_hold_44 : decode cX7_hold 44 = .ok (.getfield 21, 3) := by decide +kernel
theorem dX7_hold_47 : decode cX7_hold 47 = .ok (.getfield 212, 3) := by decide +kernel
theorem dX7_hold_50 : decode cX7_hold 50 = .ok (.if_icmp .ge 31, 3) := by decide +kernel
theorem dX7_hold_53 : decode cX7_hold 53 = .ok (.iload_n 1, 1) := by decide +kernel
theorem dX7_hold_54 : decode cX7_hold 54 = .ok (.ifCond .eq 27, 3) := by decide +kernel
theorem dX7_hold_57 : decode cX7_hold 57 = .ok (.aload_n 0, 1) := by decide +kernel
theorem dX7_hold_58 : decode cX7_hold 58 = .ok (.getfield 55, 3) := by decide +kernel
theorem dX7_hold_61 : decode cX7_hold 61 = .ok (.aload_n 0, 1) := by decide +kernel
theorem dX7_hold_62 : decode cX7_hold 62 = .ok (.getfield 27, 3) := by decide +kernel
theorem dX7_hold_65 : decode cX7_hold 65 = .ok (.iload_n 2, 1) := by decide +kernel
theorem dX7_hold_66 : decode cX7_hold 66 = .ok (.aaload, 1) := by decide +kernel
theorem dX7_hold_67 : decode cX7_hold 67 = .ok (.aload_n 0, 1) := by decide +kernel
theorem dX7_hold_68 : decode cX7_hold 68 = .ok (.getfield 50, 3) := by decide +kernel
theorem dX7_hold_71 : decode cX7_hold 71 = .ok (.invokevirtual 224, 3) := by decide +kernel
theorem dX7_hold_74 : decode cX7_hold 74 = .ok (.istore_n 1, 1) := by decide +kernel
theorem dX7_hold_75 : decode cX7_hold 75 = .ok (.iinc 2 1, 3) := by decide +kernel
theorem dX7_hold_78 : decode cX7_hold 78 = .ok (.goto (-36), 3) := by decide +kernel
theorem dX7_hold_81 : decode cX7_hold 81 = .ok (.iload_n 1, 1) := by decide +kernel
theorem dX7_hold_82 : decode cX7_hold 82 = .ok (.ireturn, 1) := by decide +kernel
theorem dX7_init_0 : decode cX7_init 0 = .ok (.aload_n 0, 1) := by decide +kernel
theorem dX7_init_1 : decode cX7_init 1 = .ok (.invokespecial 3, 3) := by decide +kernel
theorem dX7_init_4 : decode cX7_init 4 = .ok (.aload_n 0, 1) := by decide +kernel
theorem dX7_init_5 : decode cX7_init 5 = .ok (.new 9, 3) := by decide +kernel
theorem dX7_init_8 : decode cX7_init 8 = .ok (.dup, 1) := by decide +kernel
theorem dX7_init_9 : decode cX7_init 9 = .ok (.invokespecial 11, 3) := by decide +kernel
theorem dX7_init_12 : decode cX7_init 12 = .ok (.putfield 12, 3) := by decide +kernel
theorem dX7_init_15 : decode cX7_init 15 = .ok (.aload_n 0, 1) := by decide +kernel
theorem dX7_init_16 : decode cX7_init 16 = .ok (.new 18, 3) := by decide +kernel
theorem dX7_init_19 : decode cX7_init 19 = .ok (.dup, 1) := by decide +kernel
theorem dX7_init_20 : decode cX7_init 20 = .ok (.invokespecial 20, 3) := by decide +kernel
theorem dX7_init_23 : decode cX7_init 23 = .ok (.putfield 21, 3) := by decide +kernel
theorem dX7_init_26 : decode cX7_init 26 = .ok (.aload_n 0, 1) := by decide +kernel
theorem dX7_init_27 : decode cX7_init 27 = .ok (.sipush 300, 3) := by decide +kernel
theorem dX7_init_30 : decode cX7_init 30 = .ok (.anewarray 25, 3) := by decide +kernel
theorem dX7_init_33 : decode cX7_init 33 = .ok (.putfield 27, 3) := by decide +kernel
theorem dX7_init_36 : decode cX7_init 36 = .ok (.aload_n 0, 1) := by decide +kernel
theorem dX7_init_37 : decode cX7_init 37 = .ok (.bipush 16, 2) := by decide +kernel
theorem dX7_init_39 : decode cX7_init 39 = .ok (.newarray .long, 2) := by decide +kernel
theorem dX7_init_41 : decode cX7_init 41 = .ok (.putfield 31, 3) := by decide +kernel
theorem dX7_init_44 : decode cX7_init 44 = .ok (.aload_n 0, 1) := by decide +kernel
theorem dX7_init_45 : decode cX7_init 45 = .ok (.bipush 16, 2) := by decide +kernel
theorem dX7_init_47 : decode cX7_init 47 = .ok (.newarray .int, 2) := by decide +kernel
theorem dX7_init_49 : decode cX7_init 49 = .ok (.putfield 35, 3) := by decide +kernel
theorem dX7_init_52 : decode cX7_init 52 = .ok (.aload_n 0, 1) := by decide +kernel
theorem dX7_init_53 : decode cX7_init 53 = .ok (.bipush 8, 2) := by decide +kernel
theorem dX7_init_55 : decode cX7_init 55 = .ok (.anewarray 39, 3) := by decide +kernel
theorem dX7_init_58 : decode cX7_init 58 = .ok (.putfield 41, 3) := by decide +kernel
theorem dX7_init_61 : decode cX7_init 61 = .ok (.aload_n 0, 1) := by decide +kernel
theorem dX7_init_62 : decode cX7_init 62 = .ok (.new 45, 3) := by decide +kernel
theorem dX7_init_65 : decode cX7_init 65 = .ok (.dup, 1) := by decide +kernel
theorem dX7_init_66 : decode cX7_init 66 = .ok (.aload_n 0, 1) := by decide +kernel
theorem dX7_init_67 : decode cX7_init 67 = .ok (.invokespecial 47, 3) := by decide +kernel
theorem dX7_init_70 : decode cX7_init 70 = .ok (.putfield 50, 3) := by decide +kernel
theorem dX7_init_73 : decode cX7_init 73 = .ok (.iconst 0, 1) := by decide +kernel
theorem dX7_init_74 : decode cX7_init 74 = .ok (.istore_n 1, 1) := by decide +kernel
theorem dX7_init_75 : decode cX7_init 75 = .ok (.iload_n 1, 1) := by decide +kernel
theorem dX7_init_76 : decode cX7_init 76 = .ok (.bipush 8, 2) := by decide +kernel
theorem dX7_init_78 : decode cX7_init 78 = .ok (.if_icmp .ge 22, 3) := by decide +kernel
theorem dX7_init_81 : decode cX7_init 81 = .ok (.aload_n 0, 1) := by decide +kernel
theorem dX7_init_82 : decode cX7_init 82 = .ok (.getfield 41, 3) := by decide +kernel
theorem dX7_init_85 : decode cX7_init 85 = .ok (.iload_n 1, 1) := by decide +kernel
theorem dX7_init_86 : decode cX7_init 86 = .ok (.new 39, 3) := by decide +kernel
theorem dX7_init_89 : decode cX7_init 89 = .ok (.dup, 1) := by decide +kernel
theorem dX7_init_90 : decode cX7_init 90 = .ok (.invokespecial 54, 3) := by decide +kernel
theorem dX7_init_93 : decode cX7_init 93 = .ok (.aastore, 1) := by decide +kernel
theorem dX7_init_94 : decode cX7_init 94 = .ok (.iinc 1 1, 3) := by decide +kernel
theorem dX7_init_97 : decode cX7_init 97 = .ok (.goto (-22), 3) := by decide +kernel
theorem dX7_init_100 : decode cX7_init 100 = .ok (.return_, 1) := by decide +kernel
theorem dX7_isFresh_0 : decode cX7_isFresh 0 = .ok (.iconst 0, 1) := by decide +kernel
theorem dX7_isFresh_1 : decode cX7_isFresh 1 = .ok (.istore_n 1, 1) := by decide +kernel
theorem dX7_isFresh_2 : decode cX7_isFresh 2 = .ok (.iload_n 1, 1) := by decide +kernel
theorem dX7_isFresh_3 : decode cX7_isFresh 3 = .ok (.bipush 16, 2) := by decide +kernel
theorem dX7_isFresh_5 : decode cX7_isFresh 5 = .ok (.if_icmp .ge 41, 3) := by decide +kernel
theorem dX7_isFresh_8 : decode cX7_isFresh 8 = .ok (.aload_n 0, 1) := by decide +kernel
theorem dX7_isFresh_9 : decode cX7_isFresh 9 = .ok (.getfield 62, 3) := by decide +kernel
theorem dX7_isFresh_12 : decode cX7_isFresh 12 = .ok (.iload_n 1, 1) := by decide +kernel
theorem dX7_isFresh_13 : decode cX7_isFresh 13 = .ok (.ishr, 1) := by decide +kernel
theorem dX7_isFresh_14 : decode cX7_isFresh 14 = .ok (.iconst 1, 1) := by decide +kernel
theorem dX7_isFresh_15 : decode cX7_isFresh 15 = .ok (.iand, 1) := by decide +kernel
theorem dX7_isFresh_16 : decode cX7_isFresh 16 = .ok (.iconst 1, 1) := by decide +kernel
theorem dX7_isFresh_17 : decode cX7_isFresh 17 = .ok (.if_icmp .ne 23, 3) := by decide +kernel
theorem dX7_isFresh_20 : decode cX7_isFresh 20 = .ok (.aload_n 0, 1) := by decide +kernel
theorem dX7_isFresh_21 : decode cX7_isFresh 21 = .ok (.getfield 55, 3) := by decide +kernel
theorem dX7_isFresh_24 : decode cX7_isFresh 24 = .ok (.getfield 81, 3) := by decide +kernel
theorem dX7_isFresh_27 : decode cX7_isFresh 27 = .ok (.iload_n 1, 1) := by decide +kernel
theorem dX7_isFresh_28 : decode cX7_isFresh 28 = .ok (.iaload, 1) := by decide +kernel
theorem dX7_isFresh_29 : decode cX7_isFresh 29 = .ok (.aload_n 0, 1) := by decide +kernel
theorem dX7_isFresh_30 : decode cX7_isFresh 30 = .ok (.getfield 35, 3) := by decide +kernel
theorem dX7_isFresh_33 : decode cX7_isFresh 33 = .ok (.iload_n 1, 1) := by decide +kernel
theorem dX7_isFresh_34 : decode cX7_isFresh 34 = .ok (.iaload, 1) := by decide +kernel
theorem dX7_isFresh_35 : decode cX7_isFresh 35 = .ok (.if_icmp .eq 5, 3) := by decide +kernel
theorem dX7_isFresh_38 : decode cX7_isFresh 38 = .ok (.iconst 0, 1) := by decide +kernel
theorem dX7_isFresh_39 : decode cX7_isFresh 39 = .ok (.ireturn, 1) := by decide +kernel
theorem dX7_isFresh_40 : decode cX7_isFresh 40 = .ok (.iinc 1 1, 3) := by decide +kernel
theorem dX7_isFresh_43 : decode cX7_isFresh 43 = .ok (.goto (-41), 3) := by decide +kernel
theorem dX7_isFresh_46 : decode cX7_isFresh 46 = .ok (.iconst 1, 1) := by decide +kernel
theorem dX7_isFresh_47 : decode cX7_isFresh 47 = .ok (.ireturn, 1) := by decide +kernel
theorem dX7_join_0 : decode cX7_join 0 = .ok (.iconst 0, 1) := by decide +kernel
theorem dX7_join_1 : decode cX7_join 1 = .ok (.istore_n 1, 1) := by decide +kernel
theorem dX7_join_2 : decode cX7_join 2 = .ok (.iload_n 1, 1) := by decide +kernel
theorem dX7_join_3 : decode cX7_join 3 = .ok (.bipush 16, 2) := by decide +kernel
theorem dX7_join_5 : decode cX7_join 5 = .ok (.if_icmp .ge 41, 3) := by decide +kernel
theorem dX7_join_8 : decode cX7_join 8 = .ok (.aload_n 0, 1) := by decide +kernel
theorem dX7_join_9 : decode cX7_join 9 = .ok (.getfield 21, 3) := by decide +kernel
theorem dX7_join_12 : decode cX7_join 12 = .ok (.getfield 87, 3) := by decide +kernel
theorem dX7_join_15 : decode cX7_join 15 = .ok (.iload_n 1, 1) := by decide +kernel
theorem dX7_join_16 : decode cX7_join 16 = .ok (.ishr, 1) := by decide +kernel
theorem dX7_join_17 : decode cX7_join 17 = .ok (.iconst 1, 1) := by decide +kernel
theorem dX7_join_18 : decode cX7_join 18 = .ok (.iand, 1) := by decide +kernel
theorem dX7_join_19 : decode cX7_join 19 = .ok (.iconst 1, 1) := by decide +kernel
theorem dX7_join_20 : decode cX7_join 20 = .ok (.if_icmp .ne 20, 3) := by decide +kernel
theorem dX7_join_23 : decode cX7_join 23 = .ok (.aload_n 0, 1) := by decide +kernel
theorem dX7_join_24 : decode cX7_join 24 = .ok (.getfield 55, 3) := by decide +kernel
theorem dX7_join_27 : decode cX7_join 27 = .ok (.iload_n 1, 1) := by decide +kernel
theorem dX7_join_28 : decode cX7_join 28 = .ok (.aload_n 0, 1) := by decide +kernel
theorem dX7_join_29 : decode cX7_join 29 = .ok (.getfield 21, 3) := by decide +kernel
theorem dX7_join_32 : decode cX7_join 32 = .ok (.getfield 90, 3) := by decide +kernel
theorem dX7_join_35 : decode cX7_join 35 = .ok (.iload_n 1, 1) := by decide +kernel
theorem dX7_join_36 : decode cX7_join 36 = .ok (.laload, 1) := by decide +kernel
theorem dX7_join_37 : decode cX7_join 37 = .ok (.invokevirtual 228, 3) := by decide +kernel
theorem dX7_join_40 : decode cX7_join 40 = .ok (.iinc 1 1, 3) := by decide +kernel
theorem dX7_join_43 : decode cX7_join 43 = .ok (.goto (-41), 3) := by decide +kernel
theorem dX7_join_46 : decode cX7_join 46 = .ok (.iconst 0, 1) := by decide +kernel
theorem dX7_join_47 : decode cX7_join 47 = .ok (.istore_n 1, 1) := by decide +kernel
theorem dX7_join_48 : decode cX7_join 48 = .ok (.iload_n 1, 1) := by decide +kernel
theorem dX7_join_49 : decode cX7_join 49 = .ok (.aload_n 0, 1) := by decide +kernel
theorem dX7_join_50 : decode cX7_join 50 = .ok (.getfield 21, 3) := by decide +kernel
theorem dX7_join_53 : decode cX7_join 53 = .ok (.getfield 212, 3) := by decide +kernel
theorem dX7_join_56 : decode cX7_join 56 = .ok (.if_icmp .ge 43, 3) := by decide +kernel
theorem dX7_join_59 : decode cX7_join 59 = .ok (.aload_n 0, 1) := by decide +kernel
theorem dX7_join_60 : decode cX7_join 60 = .ok (.getfield 55, 3) := by decide +kernel
theorem dX7_join_63 : decode cX7_join 63 = .ok (.getfield 229, 3) := by decide +kernel
theorem dX7_join_66 : decode cX7_join 66 = .ok (.aload_n 0, 1) := by decide +kernel
theorem dX7_join_67 : decode cX7_join 67 = .ok (.getfield 55, 3) := by decide +kernel
theorem dX7_join_70 : decode cX7_join 70 = .ok (.getfield 217, 3) := by decide +kernel
theorem dX7_join_73 : decode cX7_join 73 = .ok (.aload_n 0, 1) := by decide +kernel
theorem dX7_join_74 : decode cX7_join 74 = .ok (.getfield 27, 3) := by decide +kernel
theorem dX7_join_77 : decode cX7_join 77 = .ok (.iload_n 1, 1) := by decide +kernel
theorem dX7_join_78 : decode cX7_join 78 = .ok (.aaload, 1) := by decide +kernel
theorem dX7_join_79 : decode cX7_join 79 = .ok (.aastore, 1) := by decide +kernel
theorem dX7_join_80 : decode cX7_join 80 = .ok (.aload_n 0, 1) := by decide +kernel
theorem dX7_join_81 : decode cX7_join 81 = .ok (.getfield 55, 3) := by decide +kernel
theorem dX7_join_84 : decode cX7_join 84 = .ok (.dup, 1) := by decide +kernel
theorem dX7_join_85 : decode cX7_join 85 = .ok (.getfield 217, 3) := by decide +kernel
theorem dX7_join_88 : decode cX7_join 88 = .ok (.iconst 1, 1) := by decide +kernel
theorem dX7_join_89 : decode cX7_join 89 = .ok (.iadd, 1) := by decide +kernel
theorem dX7_join_90 : decode cX7_join 90 = .ok (.putfield 217, 3) := by decide +kernel
theorem dX7_join_93 : decode cX7_join 93 = .ok (.iinc 1 1, 3) := by decide +kernel
theorem dX7_join_96 : decode cX7_join 96 = .ok (.goto (-48), 3) := by decide +kernel
theorem dX7_join_99 : decode cX7_join 99 = .ok (.return_, 1) := by decide +kernel
theorem dX7_leave_0 : decode cX7_leave 0 = .ok (.aload_n 0, 1) := by decide +kernel
theorem dX7_leave_1 : decode cX7_leave 1 = .ok (.getfield 75, 3) := by decide +kernel
theorem dX7_leave_4 : decode cX7_leave 4 = .ok (.ifnonnull 58, 3) := by decide +kernel
theorem dX7_leave_7 : decode cX7_leave 7 = .ok (.aload_n 0, 1) := by decide +kernel
theorem dX7_leave_8 : decode cX7_leave 8 = .ok (.getfield 66, 3) := by decide +kernel
theorem dX7_leave_11 : decode cX7_leave 11 = .ok (.ifCond .le 51, 3) := by decide +kernel
theorem dX7_leave_14 : decode cX7_leave 14 = .ok (.aload_n 0, 1) := by decide +kernel
theorem dX7_leave_15 : decode cX7_leave 15 = .ok (.dup, 1) := by decide +kernel
theorem dX7_leave_16 : decode cX7_leave 16 = .ok (.getfield 66, 3) := by decide +kernel
theorem dX7_leave_19 : decode cX7_leave 19 = .ok (.iconst 1, 1) := by decide +kernel
theorem dX7_leave_20 : decode cX7_leave 20 = .ok (.isub, 1) := by decide +kernel
theorem dX7_leave_21 : decode cX7_leave 21 = .ok (.putfield 66, 3) := by decide +kernel
theorem dX7_leave_24 : decode cX7_leave 24 = .ok (.aload_n 0, 1) := by decide +kernel
theorem dX7_leave_25 : decode cX7_leave 25 = .ok (.getfield 41, 3) := by decide +kernel
theorem dX7_leave_28 : decode cX7_leave 28 = .ok (.aload_n 0, 1) := by decide +kernel
theorem dX7_leave_29 : decode cX7_leave 29 = .ok (.getfield 66, 3) := by decide +kernel
theorem dX7_leave_32 : decode cX7_leave 32 = .ok (.aaload, 1) := by decide +kernel
theorem dX7_leave_33 : decode cX7_leave 33 = .ok (.getfield 100, 3) := by decide +kernel
theorem dX7_leave_36 : decode cX7_leave 36 = .ok (.astore_n 1, 1) := by decide +kernel
theorem dX7_leave_37 : decode cX7_leave 37 = .ok (.aload_n 0, 1) := by decide +kernel
theorem dX7_leave_38 : decode cX7_leave 38 = .ok (.aload_n 1, 1) := by decide +kernel
theorem dX7_leave_39 : decode cX7_leave 39 = .ok (.getfield 120, 3) := by decide +kernel
theorem dX7_leave_42 : decode cX7_leave 42 = .ok (.getstatic 124, 3) := by decide +kernel
theorem dX7_leave_45 : decode cX7_leave 45 = .ok (.if_acmp .ne 7, 3) := by decide +kernel
theorem dX7_leave_48 : decode cX7_leave 48 = .ok (.aload_n 1, 1) := by decide +kernel
theorem dX7_leave_49 : decode cX7_leave 49 = .ok (.goto 7, 3) := by decide +kernel
theorem dX7_leave_52 : decode cX7_leave 52 = .ok (.aload_n 1, 1) := by decide +kernel
theorem dX7_leave_53 : decode cX7_leave 53 = .ok (.getfield 129, 3) := by decide +kernel
theorem dX7_leave_56 : decode cX7_leave 56 = .ok (.putfield 75, 3) := by decide +kernel
theorem dX7_leave_59 : decode cX7_leave 59 = .ok (.goto (-59), 3) := by decide +kernel
theorem dX7_leave_62 : decode cX7_leave 62 = .ok (.return_, 1) := by decide +kernel
theorem dX7_of_0 : decode cX7_of 0 = .ok (.iload_n 1, 1) := by decide +kernel
theorem dX7_of_1 : decode cX7_of 1 = .ok (.bipush 16, 2) := by decide +kernel
theorem dX7_of_3 : decode cX7_of 3 = .ok (.if_icmp .lt 16, 3) := by decide +kernel
theorem dX7_of_6 : decode cX7_of 6 = .ok (.aload_n 0, 1) := by decide +kernel
theorem dX7_of_7 : decode cX7_of 7 = .ok (.getfield 21, 3) := by decide +kernel
theorem dX7_of_10 : decode cX7_of 10 = .ok (.getfield 84, 3) := by decide +kernel
theorem dX7_of_13 : decode cX7_of 13 = .ok (.iload_n 1, 1) := by decide +kernel
theorem dX7_of_14 : decode cX7_of 14 = .ok (.bipush 16, 2) := by decide +kernel
theorem dX7_of_16 : decode cX7_of 16 = .ok (.isub, 1) := by decide +kernel
theorem dX7_of_17 : decode cX7_of 17 = .ok (.laload, 1) := by decide +kernel
theorem dX7_of_18 : decode cX7_of 18 = .ok (.lreturn, 1) := by decide +kernel
theorem dX7_of_19 : decode cX7_of 19 = .ok (.aload_n 0, 1) := by decide +kernel
theorem dX7_of_20 : decode cX7_of 20 = .ok (.getfield 21, 3) := by decide +kernel
theorem dX7_of_23 : decode cX7_of 23 = .ok (.getfield 87, 3) := by decide +kernel
theorem dX7_of_26 : decode cX7_of 26 = .ok (.iload_n 1, 1) := by decide +kernel
theorem dX7_of_27 : decode cX7_of 27 = .ok (.ishr, 1) := by decide +kernel
theorem dX7_of_28 : decode cX7_of 28 = .ok (.iconst 1, 1) := by decide +kernel
theorem dX7_of_29 : decode cX7_of 29 = .ok (.iand, 1) := by decide +kernel
theorem dX7_of_30 : decode cX7_of 30 = .ok (.iconst 1, 1) := by decide +kernel
theorem dX7_of_31 : decode cX7_of 31 = .ok (.if_icmp .ne 13, 3) := by decide +kernel
theorem dX7_of_34 : decode cX7_of 34 = .ok (.aload_n 0, 1) := by decide +kernel
theorem dX7_of_35 : decode cX7_of 35 = .ok (.getfield 21, 3) := by decide +kernel
theorem dX7_of_38 : decode cX7_of 38 = .ok (.getfield 90, 3) := by decide +kernel
theorem dX7_of_41 : decode cX7_of 41 = .ok (.iload_n 1, 1) := by decide +kernel
theorem dX7_of_42 : decode cX7_of 42 = .ok (.laload, 1) := by decide +kernel
theorem dX7_of_43 : decode cX7_of 43 = .ok (.lreturn, 1) := by decide +kernel
theorem dX7_of_44 : decode cX7_of 44 = .ok (.aload_n 0, 1) := by decide +kernel
theorem dX7_of_45 : decode cX7_of 45 = .ok (.getfield 62, 3) := by decide +kernel
theorem dX7_of_48 : decode cX7_of 48 = .ok (.iload_n 1, 1) := by decide +kernel
theorem dX7_of_49 : decode cX7_of 49 = .ok (.ishr, 1) := by decide +kernel
theorem dX7_of_50 : decode cX7_of 50 = .ok (.iconst 1, 1) := by decide +kernel
theorem dX7_of_51 : decode cX7_of 51 = .ok (.iand, 1) := by decide +kernel
theorem dX7_of_52 : decode cX7_of 52 = .ok (.ifCond .ne 57, 3) := by decide +kernel
theorem dX7_of_55 : decode cX7_of 55 = .ok (.aload_n 0, 1) := by decide +kernel
theorem dX7_of_56 : decode cX7_of 56 = .ok (.invokevirtual 93, 3) := by decide +kernel
theorem dX7_of_59 : decode cX7_of 59 = .ok (.ifCond .ne 8, 3) := by decide +kernel
theorem dX7_of_62 : decode cX7_of 62 = .ok (.aload_n 0, 1) := by decide +kernel
theorem dX7_of_63 : decode cX7_of 63 = .ok (.getfield 12, 3) := by decide +kernel
theorem dX7_of_66 : decode cX7_of 66 = .ok (.athrow, 1) := by decide +kernel
theorem dX7_of_67 : decode cX7_of 67 = .ok (.aload_n 0, 1) := by decide +kernel
theorem dX7_of_68 : decode cX7_of 68 = .ok (.dup, 1) := by decide +kernel
theorem dX7_of_69 : decode cX7_of 69 = .ok (.getfield 62, 3) := by decide +kernel
theorem dX7_of_72 : decode cX7_of 72 = .ok (.iconst 1, 1) := by decide +kernel
theorem dX7_of_73 : decode cX7_of 73 = .ok (.iload_n 1, 1) := by decide +kernel
theorem dX7_of_74 : decode cX7_of 74 = .ok (.ishl, 1) := by decide +kernel
theorem dX7_of_75 : decode cX7_of 75 = .ok (.ior, 1) := by decide +kernel
theorem dX7_of_76 : decode cX7_of 76 = .ok (.putfield 62, 3) := by decide +kernel
theorem dX7_of_79 : decode cX7_of 79 = .ok (.aload_n 0, 1) := by decide +kernel
theorem dX7_of_80 : decode cX7_of 80 = .ok (.getfield 31, 3) := by decide +kernel
theorem dX7_of_83 : decode cX7_of 83 = .ok (.iload_n 1, 1) := by decide +kernel
theorem dX7_of_84 : decode cX7_of 84 = .ok (.aload_n 0, 1) := by decide +kernel
theorem dX7_of_85 : decode cX7_of 85 = .ok (.getfield 55, 3) := by decide +kernel
theorem dX7_of_88 : decode cX7_of 88 = .ok (.getfield 97, 3) := by decide +kernel
theorem dX7_of_91 : decode cX7_of 91 = .ok (.iload_n 1, 1) := by decide +kernel
theorem dX7_of_92 : decode cX7_of 92 = .ok (.laload, 1) := by decide +kernel
theorem dX7_of_93 : decode cX7_of 93 = .ok (.lastore, 1) := by decide +kernel
theorem dX7_of_94 : decode cX7_of 94 = .ok (.aload_n 0, 1) := by decide +kernel
theorem dX7_of_95 : decode cX7_of 95 = .ok (.getfield 35, 3) := by decide +kernel
theorem dX7_of_98 : decode cX7_of 98 = .ok (.iload_n 1, 1) := by decide +kernel
theorem dX7_of_99 : decode cX7_of 99 = .ok (.aload_n 0, 1) := by decide +kernel
theorem dX7_of_100 : decode cX7_of 100 = .ok (.getfield 55, 3) := by decide +kernel
theorem dX7_of_103 : decode cX7_of 103 = .ok (.getfield 81, 3) := by decide +kernel
theorem dX7_of_106 : decode cX7_of 106 = .ok (.iload_n 1, 1) := by decide +kernel
theorem dX7_of_107 : decode cX7_of 107 = .ok (.iaload, 1) := by decide +kernel
theorem dX7_of_108 : decode cX7_of 108 = .ok (.iastore, 1) := by decide +kernel
theorem dX7_of_109 : decode cX7_of 109 = .ok (.aload_n 0, 1) := by decide +kernel
theorem dX7_of_110 : decode cX7_of 110 = .ok (.getfield 31, 3) := by decide +kernel
theorem dX7_of_113 : decode cX7_of 113 = .ok (.iload_n 1, 1) := by decide +kernel
theorem dX7_of_114 : decode cX7_of 114 = .ok (.laload, 1) := by decide +kernel
theorem dX7_of_115 : decode cX7_of 115 = .ok (.lreturn, 1) := by decide +kernel
theorem dX7_sees_0 : decode cX7_sees 0 = .ok (.iload_n 1, 1) := by decide +kernel
theorem dX7_sees_1 : decode cX7_sees 1 = .ok (.bipush 16, 2) := by decide +kernel
theorem dX7_sees_3 : decode cX7_sees 3 = .ok (.if_icmp .lt 16, 3) := by decide +kernel
theorem dX7_sees_6 : decode cX7_sees 6 = .ok (.aload_n 0, 1) := by decide +kernel
theorem dX7_sees_7 : decode cX7_sees 7 = .ok (.getfield 21, 3) := by decide +kernel
theorem dX7_sees_10 : decode cX7_sees 10 = .ok (.getfield 84, 3) := by decide +kernel
theorem dX7_sees_13 : decode cX7_sees 13 = .ok (.iload_n 1, 1) := by decide +kernel
theorem dX7_sees_14 : decode cX7_sees 14 = .ok (.bipush 16, 2) := by decide +kernel
theorem dX7_sees_16 : decode cX7_sees 16 = .ok (.isub, 1) := by decide +kernel
theorem dX7_sees_17 : decode cX7_sees 17 = .ok (.laload, 1) := by decide +kernel
theorem dX7_sees_18 : decode cX7_sees 18 = .ok (.lreturn, 1) := by decide +kernel
theorem dX7_sees_19 : decode cX7_sees 19 = .ok (.aload_n 0, 1) := by decide +kernel
theorem dX7_sees_20 : decode cX7_sees 20 = .ok (.getfield 21, 3) := by decide +kernel
theorem dX7_sees_23 : decode cX7_sees 23 = .ok (.getfield 87, 3) := by decide +kernel
theorem dX7_sees_26 : decode cX7_sees 26 = .ok (.iload_n 1, 1) := by decide +kernel
theorem dX7_sees_27 : decode cX7_sees 27 = .ok (.ishr, 1) := by decide +kernel
theorem dX7_sees_28 : decode cX7_sees 28 = .ok (.iconst 1, 1) := by decide +kernel
theorem dX7_sees_29 : decode cX7_sees 29 = .ok (.iand, 1) := by decide +kernel
theorem dX7_sees_30 : decode cX7_sees 30 = .ok (.iconst 1, 1) := by decide +kernel
theorem dX7_sees_31 : decode cX7_sees 31 = .ok (.if_icmp .ne 15, 3) := by decide +kernel
theorem dX7_sees_34 : decode cX7_sees 34 = .ok (.aload_n 0, 1) := by decide +kernel
theorem dX7_sees_35 : decode cX7_sees 35 = .ok (.getfield 21, 3) := by decide +kernel
theorem dX7_sees_38 : decode cX7_sees 38 = .ok (.getfield 90, 3) := by decide +kernel
theorem dX7_sees_41 : decode cX7_sees 41 = .ok (.iload_n 1, 1) := by decide +kernel
theorem dX7_sees_42 : decode cX7_sees 42 = .ok (.laload, 1) := by decide +kernel
theorem dX7_sees_43 : decode cX7_sees 43 = .ok (.goto 33, 3) := by decide +kernel
theorem dX7_sees_46 : decode cX7_sees 46 = .ok (.aload_n 0, 1) := by decide +kernel
theorem dX7_sees_47 : decode cX7_sees 47 = .ok (.getfield 62, 3) := by decide +kernel
theorem dX7_sees_50 : decode cX7_sees 50 = .ok (.iload_n 1, 1) := by decide +kernel
theorem dX7_sees_51 : decode cX7_sees 51 = .ok (.ishr, 1) := by decide +kernel
theorem dX7_sees_52 : decode cX7_sees 52 = .ok (.iconst 1, 1) := by decide +kernel
theorem dX7_sees_53 : decode cX7_sees 53 = .ok (.iand, 1) := by decide +kernel
theorem dX7_sees_54 : decode cX7_sees 54 = .ok (.iconst 1, 1) := by decide +kernel
theorem dX7_sees_55 : decode cX7_sees 55 = .ok (.if_icmp .ne 12, 3) := by decide +kernel
theorem dX7_sees_58 : decode cX7_sees 58 = .ok (.aload_n 0, 1) := by decide +kernel
theorem dX7_sees_59 : decode cX7_sees 59 = .ok (.getfield 31, 3) := by decide +kernel
theorem dX7_sees_62 : decode cX7_sees 62 = .ok (.iload_n 1, 1) := by decide +kernel
theorem dX7_sees_63 : decode cX7_sees 63 = .ok (.laload, 1) := by decide +kernel
theorem dX7_sees_64 : decode cX7_sees 64 = .ok (.goto 12, 3) := by decide +kernel
theorem dX7_sees_67 : decode cX7_sees 67 = .ok (.aload_n 0, 1) := by decide +kernel
theorem dX7_sees_68 : decode cX7_sees 68 = .ok (.getfield 55, 3) := by decide +kernel
theorem dX7_sees_71 : decode cX7_sees 71 = .ok (.getfield 97, 3) := by decide +kernel
theorem dX7_sees_74 : decode cX7_sees 74 = .ok (.iload_n 1, 1) := by decide +kernel
theorem dX7_sees_75 : decode cX7_sees 75 = .ok (.laload, 1) := by decide +kernel
theorem dX7_sees_76 : decode cX7_sees 76 = .ok (.lreturn, 1) := by decide +kernel
