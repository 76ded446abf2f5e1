/-! decode rows (by a program) -/
set_option maxRecDepth 100000
theorem dX7_step_0 : decode cX7_step 0 = .ok (.aload_n 0, 1) := by decide +kernel
theorem dX7_step_1 : decode cX7_step 1 = .ok (.invokevirtual 134, 3) := by decide +kernel
theorem dX7_step_4 : decode cX7_step 4 = .ok (.aload_n 0, 1) := by decide +kernel
theorem dX7_step_5 : decode cX7_step 5 = .ok (.aload_n 0, 1) := by decide +kernel
theorem dX7_step_6 : decode cX7_step 6 = .ok (.getfield 62, 3) := by decide +kernel
theorem dX7_step_9 : decode cX7_step 9 = .ok (.putfield 137, 3) := by decide +kernel
theorem dX7_step_12 : decode cX7_step 12 = .ok (.aload_n 0, 1) := by decide +kernel
theorem dX7_step_13 : decode cX7_step 13 = .ok (.getfield 78, 3) := by decide +kernel
theorem dX7_step_16 : decode cX7_step 16 = .ok (.sipush 300, 3) := by decide +kernel
theorem dX7_step_19 : decode cX7_step 19 = .ok (.if_icmp .ne 18, 3) := by decide +kernel
theorem dX7_step_22 : decode cX7_step 22 = .ok (.aload_n 0, 1) := by decide +kernel
theorem dX7_step_23 : decode cX7_step 23 = .ok (.ldc2_w 139, 3) := by decide +kernel
theorem dX7_step_26 : decode cX7_step 26 = .ok (.putfield 141, 3) := by decide +kernel
theorem dX7_step_29 : decode cX7_step 29 = .ok (.aload_n 0, 1) := by decide +kernel
theorem dX7_step_30 : decode cX7_step 30 = .ok (.getstatic 145, 3) := by decide +kernel
theorem dX7_step_33 : decode cX7_step 33 = .ok (.invokevirtual 151, 3) := by decide +kernel
theorem dX7_step_36 : decode cX7_step 36 = .ok (.areturn, 1) := by decide +kernel
theorem dX7_step_37 : decode cX7_step 37 = .ok (.aload_n 0, 1) := by decide +kernel
theorem dX7_step_38 : decode cX7_step 38 = .ok (.getfield 75, 3) := by decide +kernel
theorem dX7_step_41 : decode cX7_step 41 = .ok (.ifnonnull 11, 3) := by decide +kernel
theorem dX7_step_44 : decode cX7_step 44 = .ok (.aload_n 0, 1) := by decide +kernel
theorem dX7_step_45 : decode cX7_step 45 = .ok (.getstatic 155, 3) := by decide +kernel
theorem dX7_step_48 : decode cX7_step 48 = .ok (.invokevirtual 151, 3) := by decide +kernel
theorem dX7_step_51 : decode cX7_step 51 = .ok (.areturn, 1) := by decide +kernel
theorem dX7_step_52 : decode cX7_step 52 = .ok (.aload_n 0, 1) := by decide +kernel
theorem dX7_step_53 : decode cX7_step 53 = .ok (.aload_n 0, 1) := by decide +kernel
theorem dX7_step_54 : decode cX7_step 54 = .ok (.getfield 75, 3) := by decide +kernel
theorem dX7_step_57 : decode cX7_step 57 = .ok (.invokevirtual 158, 3) := by decide +kernel
theorem dX7_step_60 : decode cX7_step 60 = .ok (.goto 70, 3) := by decide +kernel
theorem dX7_step_63 : decode cX7_step 63 = .ok (.astore_n 1, 1) := by decide +kernel
theorem dX7_step_64 : decode cX7_step 64 = .ok (.getstatic 161, 3) := by decide +kernel
theorem dX7_step_67 : decode cX7_step 67 = .ok (.areturn, 1) := by decide +kernel
theorem dX7_step_68 : decode cX7_step 68 = .ok (.astore_n 1, 1) := by decide +kernel
theorem dX7_step_69 : decode cX7_step 69 = .ok (.aload_n 0, 1) := by decide +kernel
theorem dX7_step_70 : decode cX7_step 70 = .ok (.aload_n 1, 1) := by decide +kernel
theorem dX7_step_71 : decode cX7_step 71 = .ok (.getfield 166, 3) := by decide +kernel
theorem dX7_step_74 : decode cX7_step 74 = .ok (.putfield 141, 3) := by decide +kernel
theorem dX7_step_77 : decode cX7_step 77 = .ok (.aload_n 0, 1) := by decide +kernel
theorem dX7_step_78 : decode cX7_step 78 = .ok (.getfield 75, 3) := by decide +kernel
theorem dX7_step_81 : decode cX7_step 81 = .ok (.astore_n 2, 1) := by decide +kernel
theorem dX7_step_82 : decode cX7_step 82 = .ok (.aload_n 0, 1) := by decide +kernel
theorem dX7_step_83 : decode cX7_step 83 = .ok (.getstatic 167, 3) := by decide +kernel
theorem dX7_step_86 : decode cX7_step 86 = .ok (.invokevirtual 170, 3) := by decide +kernel
theorem dX7_step_89 : decode cX7_step 89 = .ok (.ifCond .ne 16, 3) := by decide +kernel
theorem dX7_step_92 : decode cX7_step 92 = .ok (.aload_n 0, 1) := by decide +kernel
theorem dX7_step_93 : decode cX7_step 93 = .ok (.aload_n 2, 1) := by decide +kernel
theorem dX7_step_94 : decode cX7_step 94 = .ok (.putfield 75, 3) := by decide +kernel
theorem dX7_step_97 : decode cX7_step 97 = .ok (.aload_n 0, 1) := by decide +kernel
theorem dX7_step_98 : decode cX7_step 98 = .ok (.getstatic 145, 3) := by decide +kernel
theorem dX7_step_101 : decode cX7_step 101 = .ok (.invokevirtual 151, 3) := by decide +kernel
theorem dX7_step_104 : decode cX7_step 104 = .ok (.areturn, 1) := by decide +kernel
theorem dX7_step_105 : decode cX7_step 105 = .ok (.aload_n 0, 1) := by decide +kernel
theorem dX7_step_106 : decode cX7_step 106 = .ok (.aload_n 0, 1) := by decide +kernel
theorem dX7_step_107 : decode cX7_step 107 = .ok (.getfield 41, 3) := by decide +kernel
theorem dX7_step_110 : decode cX7_step 110 = .ok (.aload_n 0, 1) := by decide +kernel
theorem dX7_step_111 : decode cX7_step 111 = .ok (.getfield 66, 3) := by decide +kernel
theorem dX7_step_114 : decode cX7_step 114 = .ok (.iconst 1, 1) := by decide +kernel
theorem dX7_step_115 : decode cX7_step 115 = .ok (.isub, 1) := by decide +kernel
theorem dX7_step_116 : decode cX7_step 116 = .ok (.aaload, 1) := by decide +kernel
theorem dX7_step_117 : decode cX7_step 117 = .ok (.getfield 100, 3) := by decide +kernel
theorem dX7_step_120 : decode cX7_step 120 = .ok (.getfield 174, 3) := by decide +kernel
theorem dX7_step_123 : decode cX7_step 123 = .ok (.aload_n 0, 1) := by decide +kernel
theorem dX7_step_124 : decode cX7_step 124 = .ok (.getfield 141, 3) := by decide +kernel
theorem dX7_step_127 : decode cX7_step 127 = .ok (.invokevirtual 177, 3) := by decide +kernel
theorem dX7_step_130 : decode cX7_step 130 = .ok (.aload_n 0, 1) := by decide +kernel
theorem dX7_step_131 : decode cX7_step 131 = .ok (.getfield 181, 3) := by decide +kernel
theorem dX7_step_134 : decode cX7_step 134 = .ok (.ifCond .eq 16, 3) := by decide +kernel
theorem dX7_step_137 : decode cX7_step 137 = .ok (.aload_n 0, 1) := by decide +kernel
theorem dX7_step_138 : decode cX7_step 138 = .ok (.iconst 0, 1) := by decide +kernel
theorem dX7_step_139 : decode cX7_step 139 = .ok (.putfield 181, 3) := by decide +kernel
theorem dX7_step_142 : decode cX7_step 142 = .ok (.aload_n 0, 1) := by decide +kernel
theorem dX7_step_143 : decode cX7_step 143 = .ok (.getstatic 184, 3) := by decide +kernel
theorem dX7_step_146 : decode cX7_step 146 = .ok (.invokevirtual 151, 3) := by decide +kernel
theorem dX7_step_149 : decode cX7_step 149 = .ok (.areturn, 1) := by decide +kernel
theorem dX7_step_150 : decode cX7_step 150 = .ok (.aload_n 0, 1) := by decide +kernel
theorem dX7_step_151 : decode cX7_step 151 = .ok (.dup, 1) := by decide +kernel
theorem dX7_step_152 : decode cX7_step 152 = .ok (.getfield 78, 3) := by decide +kernel
theorem dX7_step_155 : decode cX7_step 155 = .ok (.iconst 1, 1) := by decide +kernel
theorem dX7_step_156 : decode cX7_step 156 = .ok (.iadd, 1) := by decide +kernel
theorem dX7_step_157 : decode cX7_step 157 = .ok (.putfield 78, 3) := by decide +kernel
theorem dX7_step_160 : decode cX7_step 160 = .ok (.getstatic 187, 3) := by decide +kernel
theorem dX7_step_163 : decode cX7_step 163 = .ok (.areturn, 1) := by decide +kernel
theorem dX7_undo_0 : decode cX7_undo 0 = .ok (.aload_n 0, 1) := by decide +kernel
theorem dX7_undo_1 : decode cX7_undo 1 = .ok (.aload_n 0, 1) := by decide +kernel
theorem dX7_undo_2 : decode cX7_undo 2 = .ok (.getfield 137, 3) := by decide +kernel
theorem dX7_undo_5 : decode cX7_undo 5 = .ok (.putfield 62, 3) := by decide +kernel
theorem dX7_undo_8 : decode cX7_undo 8 = .ok (.return_, 1) := by decide +kernel
theorem dX7_write_0 : decode cX7_write 0 = .ok (.iload_n 1, 1) := by decide +kernel
theorem dX7_write_1 : decode cX7_write 1 = .ok (.bipush 16, 2) := by decide +kernel
theorem dX7_write_3 : decode cX7_write 3 = .ok (.if_icmp .lt 19, 3) := by decide +kernel
theorem dX7_write_6 : decode cX7_write 6 = .ok (.aload_n 0, 1) := by decide +kernel
theorem dX7_write_7 : decode cX7_write 7 = .ok (.getfield 21, 3) := by decide +kernel
theorem dX7_write_10 : decode cX7_write 10 = .ok (.getfield 84, 3) := by decide +kernel
theorem dX7_write_13 : decode cX7_write 13 = .ok (.iload_n 1, 1) := by decide +kernel
theorem dX7_write_14 : decode cX7_write 14 = .ok (.bipush 16, 2) := by decide +kernel
theorem dX7_write_16 : decode cX7_write 16 = .ok (.isub, 1) := by decide +kernel
theorem dX7_write_17 : decode cX7_write 17 = .ok (.lload_n 2, 1) := by decide +kernel
theorem dX7_write_18 : decode cX7_write 18 = .ok (.lastore, 1) := by decide +kernel
theorem dX7_write_19 : decode cX7_write 19 = .ok (.goto 28, 3) := by decide +kernel
theorem dX7_write_22 : decode cX7_write 22 = .ok (.aload_n 0, 1) := by decide +kernel
theorem dX7_write_23 : decode cX7_write 23 = .ok (.getfield 21, 3) := by decide +kernel
theorem dX7_write_26 : decode cX7_write 26 = .ok (.getfield 90, 3) := by decide +kernel
theorem dX7_write_29 : decode cX7_write 29 = .ok (.iload_n 1, 1) := by decide +kernel
theorem dX7_write_30 : decode cX7_write 30 = .ok (.lload_n 2, 1) := by decide +kernel
theorem dX7_write_31 : decode cX7_write 31 = .ok (.lastore, 1) := by decide +kernel
theorem dX7_write_32 : decode cX7_write 32 = .ok (.aload_n 0, 1) := by decide +kernel
theorem dX7_write_33 : decode cX7_write 33 = .ok (.getfield 21, 3) := by decide +kernel
theorem dX7_write_36 : decode cX7_write 36 = .ok (.dup, 1) := by decide +kernel
theorem dX7_write_37 : decode cX7_write 37 = .ok (.getfield 87, 3) := by decide +kernel
theorem dX7_write_40 : decode cX7_write 40 = .ok (.iconst 1, 1) := by decide +kernel
theorem dX7_write_41 : decode cX7_write 41 = .ok (.iload_n 1, 1) := by decide +kernel
theorem dX7_write_42 : decode cX7_write 42 = .ok (.ishl, 1) := by decide +kernel
theorem dX7_write_43 : decode cX7_write 43 = .ok (.ior, 1) := by decide +kernel
theorem dX7_write_44 : decode cX7_write 44 = .ok (.putfield 87, 3) := by decide +kernel
theorem dX7_write_47 : decode cX7_write 47 = .ok (.return_, 1) := by decide +kernel
theorem dX8_init_0 : decode cX8_init 0 = .ok (.aload_n 0, 1) := by decide +kernel
theorem dX8_init_1 : decode cX8_init 1 = .ok (.ldc 1, 2) := by decide +kernel
theorem dX8_init_3 : decode cX8_init 3 = .ok (.aconst_null, 1) := by decide +kernel
theorem dX8_init_4 : decode cX8_init 4 = .ok (.iconst 0, 1) := by decide +kernel
theorem dX8_init_5 : decode cX8_init 5 = .ok (.iconst 0, 1) := by decide +kernel
theorem dX8_init_6 : decode cX8_init 6 = .ok (.invokespecial 3, 3) := by decide +kernel
theorem dX8_init_9 : decode cX8_init 9 = .ok (.return_, 1) := by decide +kernel
theorem dX9_clear_0 : decode cX9_clear 0 = .ok (.aload_n 0, 1) := by decide +kernel
theorem dX9_clear_1 : decode cX9_clear 1 = .ok (.iconst 0, 1) := by decide +kernel
theorem dX9_clear_2 : decode cX9_clear 2 = .ok (.putfield 18, 3) := by decide +kernel
theorem dX9_clear_5 : decode cX9_clear 5 = .ok (.aload_n 0, 1) := by decide +kernel
theorem dX9_clear_6 : decode cX9_clear 6 = .ok (.getfield 15, 3) := by decide +kernel
theorem dX9_clear_9 : decode cX9_clear 9 = .ok (.lconst 0, 1) := by decide +kernel
theorem dX9_clear_10 : decode cX9_clear 10 = .ok (.invokestatic 22, 3) := by decide +kernel
theorem dX9_clear_13 : decode cX9_clear 13 = .ok (.aload_n 0, 1) := by decide +kernel
theorem dX9_clear_14 : decode cX9_clear 14 = .ok (.iconst 0, 1) := by decide +kernel
theorem dX9_clear_15 : decode cX9_clear 15 = .ok (.putfield 28, 3) := by decide +kernel
theorem dX9_clear_18 : decode cX9_clear 18 = .ok (.return_, 1) := by decide +kernel
theorem dX9_init_0 : decode cX9_init 0 = .ok (.aload_n 0, 1) := by decide +kernel
theorem dX9_init_1 : decode cX9_init 1 = .ok (.invokespecial 3, 3) := by decide +kernel
theorem dX9_init_4 : decode cX9_init 4 = .ok (.aload_n 0, 1) := by decide +kernel
theorem dX9_init_5 : decode cX9_init 5 = .ok (.bipush 16, 2) := by decide +kernel
theorem dX9_init_7 : decode cX9_init 7 = .ok (.newarray .long, 2) := by decide +kernel
theorem dX9_init_9 : decode cX9_init 9 = .ok (.putfield 9, 3) := by decide +kernel
theorem dX9_init_12 : decode cX9_init 12 = .ok (.aload_n 0, 1) := by decide +kernel
theorem dX9_init_13 : decode cX9_init 13 = .ok (.bipush 10, 2) := by decide +kernel
theorem dX9_init_15 : decode cX9_init 15 = .ok (.newarray .long, 2) := by decide +kernel
theorem dX9_init_17 : decode cX9_init 17 = .ok (.putfield 15, 3) := by decide +kernel
theorem dX9_init_20 : decode cX9_init 20 = .ok (.return_, 1) := by decide +kernel
theorem dX9_set_0 : decode cX9_set 0 = .ok (.aload_n 1, 1) := by decide +kernel
theorem dX9_set_1 : decode cX9_set 1 = .ok (.getfield 9, 3) := by decide +kernel
theorem dX9_set_4 : decode cX9_set 4 = .ok (.iconst 0, 1) := by decide +kernel
theorem dX9_set_5 : decode cX9_set 5 = .ok (.aload_n 0, 1) := by decide +kernel
theorem dX9_set_6 : decode cX9_set 6 = .ok (.getfield 9, 3) := by decide +kernel
theorem dX9_set_9 : decode cX9_set 9 = .ok (.iconst 0, 1) := by decide +kernel
theorem dX9_set_10 : decode cX9_set 10 = .ok (.bipush 16, 2) := by decide +kernel
theorem dX9_set_12 : decode cX9_set 12 = .ok (.invokestatic 31, 3) := by decide +kernel
theorem dX9_set_15 : decode cX9_set 15 = .ok (.aload_n 0, 1) := by decide +kernel
theorem dX9_set_16 : decode cX9_set 16 = .ok (.aload_n 1, 1) := by decide +kernel
theorem dX9_set_17 : decode cX9_set 17 = .ok (.getfield 18, 3) := by decide +kernel
theorem dX9_set_20 : decode cX9_set 20 = .ok (.putfield 18, 3) := by decide +kernel
theorem dX9_set_23 : decode cX9_set 23 = .ok (.aload_n 1, 1) := by decide +kernel
theorem dX9_set_24 : decode cX9_set 24 = .ok (.getfield 15, 3) := by decide +kernel
theorem dX9_set_27 : decode cX9_set 27 = .ok (.iconst 0, 1) := by decide +kernel
theorem dX9_set_28 : decode cX9_set 28 = .ok (.aload_n 0, 1) := by decide +kernel
theorem dX9_set_29 : decode cX9_set 29 = .ok (.getfield 15, 3) := by decide +kernel
theorem dX9_set_32 : decode cX9_set 32 = .ok (.iconst 0, 1) := by decide +kernel
theorem dX9_set_33 : decode cX9_set 33 = .ok (.bipush 10, 2) := by decide +kernel
theorem dX9_set_35 : decode cX9_set 35 = .ok (.invokestatic 31, 3) := by decide +kernel
theorem dX9_set_38 : decode cX9_set 38 = .ok (.aload_n 0, 1) := by decide +kernel
theorem dX9_set_39 : decode cX9_set 39 = .ok (.aload_n 1, 1) := by decide +kernel
theorem dX9_set_40 : decode cX9_set 40 = .ok (.getfield 28, 3) := by decide +kernel
theorem dX9_set_43 : decode cX9_set 43 = .ok (.putfield 28, 3) := by decide +kernel
theorem dX9_set_46 : decode cX9_set 46 = .ok (.return_, 1) := by decide +kernel
theorem dX10_init_0 : decode cX10_init 0 = .ok (.aload_n 0, 1) := by decide +kernel
theorem dX10_init_1 : decode cX10_init 1 = .ok (.aload_n 1, 1) := by decide +kernel
theorem dX10_init_2 : decode cX10_init 2 = .ok (.putfield 1, 3) := by decide +kernel
theorem dX10_init_5 : decode cX10_init 5 = .ok (.aload_n 0, 1) := by decide +kernel
theorem dX10_init_6 : decode cX10_init 6 = .ok (.invokespecial 7, 3) := by decide +kernel
theorem dX10_init_9 : decode cX10_init 9 = .ok (.return_, 1) := by decide +kernel
theorem dX10_of_0 : decode cX10_of 0 = .ok (.aload_n 0, 1) := by decide +kernel
theorem dX10_of_1 : decode cX10_of 1 = .ok (.getfield 1, 3) := by decide +kernel
theorem dX10_of_4 : decode cX10_of 4 = .ok (.iload_n 1, 1) := by decide +kernel
theorem dX10_of_5 : decode cX10_of 5 = .ok (.invokevirtual 13, 3) := by decide +kernel
theorem dX10_of_8 : decode cX10_of 8 = .ok (.lreturn, 1) := by decide +kernel
theorem dX11_init_0 : decode cX11_init 0 = .ok (.aload_n 0, 1) := by decide +kernel
theorem dX11_init_1 : decode cX11_init 1 = .ok (.invokespecial 1, 3) := by decide +kernel
theorem dX11_init_4 : decode cX11_init 4 = .ok (.aload_n 0, 1) := by decide +kernel
theorem dX11_init_5 : decode cX11_init 5 = .ok (.new 7, 3) := by decide +kernel
theorem dX11_init_8 : decode cX11_init 8 = .ok (.dup, 1) := by decide +kernel
theorem dX11_init_9 : decode cX11_init 9 = .ok (.invokespecial 9, 3) := by decide +kernel
theorem dX11_init_12 : decode cX11_init 12 = .ok (.putfield 10, 3) := by decide +kernel
theorem dX11_init_15 : decode cX11_init 15 = .ok (.return_, 1) := by decide +kernel
theorem dX12_clear_0 : decode cX12_clear 0 = .ok (.aload_n 0, 1) := by decide +kernel
theorem dX12_clear_1 : decode cX12_clear 1 = .ok (.iconst 0, 1) := by decide +kernel
theorem dX12_clear_2 : decode cX12_clear 2 = .ok (.putfield 31, 3) := by decide +kernel
theorem dX12_clear_5 : decode cX12_clear 5 = .ok (.aload_n 0, 1) := by decide +kernel
theorem dX12_clear_6 : decode cX12_clear 6 = .ok (.iconst 0, 1) := by decide +kernel
theorem dX12_clear_7 : decode cX12_clear 7 = .ok (.putfield 35, 3) := by decide +kernel
theorem dX12_clear_10 : decode cX12_clear 10 = .ok (.aload_n 0, 1) := by decide +kernel
theorem dX12_clear_11 : decode cX12_clear 11 = .ok (.iconst 0, 1) := by decide +kernel
theorem dX12_clear_12 : decode cX12_clear 12 = .ok (.putfield 38, 3) := by decide +kernel
theorem dX12_clear_15 : decode cX12_clear 15 = .ok (.aload_n 0, 1) := by decide +kernel
theorem dX12_clear_16 : decode cX12_clear 16 = .ok (.getstatic 22, 3) := by decide +kernel
theorem dX12_clear_19 : decode cX12_clear 19 = .ok (.putfield 28, 3) := by decide +kernel
theorem dX12_clear_22 : decode cX12_clear 22 = .ok (.return_, 1) := by decide +kernel
theorem dX12_cut_0 : decode cX12_cut 0 = .ok (.aload_n 0, 1) := by decide +kernel
theorem dX12_cut_1 : decode cX12_cut 1 = .ok (.dup, 1) := by decide +kernel
theorem dX12_cut_2 : decode cX12_cut 2 = .ok (.getfield 35, 3) := by decide +kernel
theorem dX12_cut_5 : decode cX12_cut 5 = .ok (.iconst 1, 1) := by decide +kernel
theorem dX12_cut_6 : decode cX12_cut 6 = .ok (.iadd, 1) := by decide +kernel
theorem dX12_cut_7 : decode cX12_cut 7 = .ok (.putfield 35, 3) := by decide +kernel
theorem dX12_cut_10 : decode cX12_cut 10 = .ok (.aload_n 0, 1) := by decide +kernel
theorem dX12_cut_11 : decode cX12_cut 11 = .ok (.aload_n 0, 1) := by decide +kernel
theorem dX12_cut_12 : decode cX12_cut 12 = .ok (.getfield 35, 3) := by decide +kernel
theorem dX12_cut_15 : decode cX12_cut 15 = .ok (.iconst 4, 1) := by decide +kernel
theorem dX12_cut_16 : decode cX12_cut 16 = .ok (.if_icmp .lt 7, 3) := by decide +kernel
theorem dX12_cut_19 : decode cX12_cut 19 = .ok (.iconst 1, 1) := by decide +kernel
theorem dX12_cut_20 : decode cX12_cut 20 = .ok (.goto 4, 3) := by decide +kernel
theorem dX12_cut_23 : decode cX12_cut 23 = .ok (.iconst 0, 1) := by decide +kernel
theorem dX12_cut_24 : decode cX12_cut 24 = .ok (.putfield 38, 3) := by decide +kernel
theorem dX12_cut_27 : decode cX12_cut 27 = .ok (.aload_n 0, 1) := by decide +kernel
theorem dX12_cut_28 : decode cX12_cut 28 = .ok (.getstatic 42, 3) := by decide +kernel
theorem dX12_cut_31 : decode cX12_cut 31 = .ok (.putfield 28, 3) := by decide +kernel
theorem dX12_cut_34 : decode cX12_cut 34 = .ok (.return_, 1) := by decide +kernel
theorem dX12_init_0 : decode cX12_init 0 = .ok (.aload_n 0, 1) := by decide +kernel
theorem dX12_init_1 : decode cX12_init 1 = .ok (.invokespecial 3, 3) := by decide +kernel
theorem dX12_init_4 : decode cX12_init 4 = .ok (.aload_n 0, 1) := by decide +kernel
theorem dX12_init_5 : decode cX12_init 5 = .ok (.bipush 16, 2) := by decide +kernel
theorem dX12_init_7 : decode cX12_init 7 = .ok (.newarray .int, 2) := by decide +kernel
theorem dX12_init_9 : decode cX12_init 9 = .ok (.putfield 9, 3) := by decide +kernel
theorem dX12_init_12 : decode cX12_init 12 = .ok (.aload_n 0, 1) := by decide +kernel
theorem dX12_init_13 : decode cX12_init 13 = .ok (.new 15, 3) := by decide +kernel
theorem dX12_init_16 : decode cX12_init 16 = .ok (.dup, 1) := by decide +kernel
theorem dX12_init_17 : decode cX12_init 17 = .ok (.invokespecial 17, 3) := by decide +kernel
theorem dX12_init_20 : decode cX12_init 20 = .ok (.putfield 18, 3) := by decide +kernel
theorem dX12_init_23 : decode cX12_init 23 = .ok (.aload_n 0, 1) := by decide +kernel
theorem dX12_init_24 : decode cX12_init 24 = .ok (.getstatic 22, 3) := by decide +kernel
theorem dX12_init_27 : decode cX12_init 27 = .ok (.putfield 28, 3) := by decide +kernel
theorem dX12_init_30 : decode cX12_init 30 = .ok (.return_, 1) := by decide +kernel
theorem dX12_over_0 : decode cX12_over 0 = .ok (.aload_n 0, 1) := by decide +kernel
theorem dX12_over_1 : decode cX12_over 1 = .ok (.getfield 9, 3) := by decide +kernel
theorem dX12_over_4 : decode cX12_over 4 = .ok (.iconst 1, 1) := by decide +kernel
theorem dX12_over_5 : decode cX12_over 5 = .ok (.aload_n 0, 1) := by decide +kernel
theorem dX12_over_6 : decode cX12_over 6 = .ok (.getfield 9, 3) := by decide +kernel
theorem dX12_over_9 : decode cX12_over 9 = .ok (.iconst 0, 1) := by decide +kernel
theorem dX12_over_10 : decode cX12_over 10 = .ok (.aload_n 0, 1) := by decide +kernel
theorem dX12_over_11 : decode cX12_over 11 = .ok (.getfield 31, 3) := by decide +kernel
theorem dX12_over_14 : decode cX12_over 14 = .ok (.iconst 1, 1) := by decide +kernel
theorem dX12_over_15 : decode cX12_over 15 = .ok (.isub, 1) := by decide +kernel
theorem dX12_over_16 : decode cX12_over 16 = .ok (.invokestatic 48, 3) := by decide +kernel
theorem dX12_over_19 : decode cX12_over 19 = .ok (.aload_n 0, 1) := by decide +kernel
theorem dX12_over_20 : decode cX12_over 20 = .ok (.dup, 1) := by decide +kernel
theorem dX12_over_21 : decode cX12_over 21 = .ok (.getfield 31, 3) := by decide +kernel
theorem dX12_over_24 : decode cX12_over 24 = .ok (.iconst 1, 1) := by decide +kernel
theorem dX12_over_25 : decode cX12_over 25 = .ok (.isub, 1) := by decide +kernel
theorem dX12_over_26 : decode cX12_over 26 = .ok (.putfield 31, 3) := by decide +kernel
theorem dX12_over_29 : decode cX12_over 29 = .ok (.aload_n 0, 1) := by decide +kernel
theorem dX12_over_30 : decode cX12_over 30 = .ok (.iconst 0, 1) := by decide +kernel
theorem dX12_over_31 : decode cX12_over 31 = .ok (.putfield 35, 3) := by decide +kernel
theorem dX12_over_34 : decode cX12_over 34 = .ok (.aload_n 0, 1) := by decide +kernel
theorem dX12_over_35 : decode cX12_over 35 = .ok (.iconst 0, 1) := by decide +kernel
theorem dX12_over_36 : decode cX12_over 36 = .ok (.putfield 38, 3) := by decide +kernel
theorem dX12_over_39 : decode cX12_over 39 = .ok (.aload_n 0, 1) := by decide +kernel
theorem dX12_over_40 : decode cX12_over 40 = .ok (.aload_n 0, 1) := by decide +kernel
theorem dX12_over_41 : decode cX12_over 41 = .ok (.getfield 31, 3) := by decide +kernel
theorem dX12_over_44 : decode cX12_over 44 = .ok (.ifCond .ne 9, 3) := by decide +kernel
theorem dX12_over_47 : decode cX12_over 47 = .ok (.getstatic 22, 3) := by decide +kernel
theorem dX12_over_50 : decode cX12_over 50 = .ok (.goto 6, 3) := by decide +kernel
theorem dX12_over_53 : decode cX12_over 53 = .ok (.getstatic 42, 3) := by decide +kernel
theorem dX12_over_56 : decode cX12_over 56 = .ok (.putfield 28, 3) := by decide +kernel
theorem dX12_over_59 : decode cX12_over 59 = .ok (.return_, 1) := by decide +kernel
theorem dX12_waits_0 : decode cX12_waits 0 = .ok (.aload_n 0, 1) := by decide +kernel
theorem dX12_waits_1 : decode cX12_waits 1 = .ok (.iconst 0, 1) := by decide +kernel
theorem dX12_waits_2 : decode cX12_waits 2 = .ok (.putfield 38, 3) := by decide +kernel
theorem dX12_waits_5 : decode cX12_waits 5 = .ok (.aload_n 0, 1) := by decide +kernel
theorem dX12_waits_6 : decode cX12_waits 6 = .ok (.getstatic 45, 3) := by decide +kernel
theorem dX12_waits_9 : decode cX12_waits 9 = .ok (.putfield 28, 3) := by decide +kernel
theorem dX12_waits_12 : decode cX12_waits 12 = .ok (.return_, 1) := by decide +kernel
theorem dX13_act_0 : decode cX13_act 0 = .ok (.sipush 200, 3) := by decide +kernel
theorem dX13_act_3 : decode cX13_act 3 = .ok (.aload_n 0, 1) := by decide +kernel
theorem dX13_act_4 : decode cX13_act 4 = .ok (.getfield 253, 3) := by decide +kernel
theorem dX13_act_7 : decode cX13_act 7 = .ok (.imul, 1) := by decide +kernel
theorem dX13_act_8 : decode cX13_act 8 = .ok (.aload_n 0, 1) := by decide +kernel
theorem dX13_act_9 : decode cX13_act 9 = .ok (.getfield 30, 3) := by decide +kernel
theorem dX13_act_12 : decode cX13_act 12 = .ok (.aload_n 0, 1) := by decide +kernel
theorem dX13_act_13 : decode cX13_act 13 = .ok (.getfield 253, 3) := by decide +kernel
theorem dX13_act_16 : decode cX13_act 16 = .ok (.iaload, 1) := by decide +kernel
theorem dX13_act_17 : decode cX13_act 17 = .ok (.iadd, 1) := by decide +kernel
theorem dX13_act_18 : decode cX13_act 18 = .ok (.istore 5, 2) := by decide +kernel
theorem dX13_act_20 : decode cX13_act 20 = .ok (.aload_n 0, 1) := by decide +kernel
theorem dX13_act_21 : decode cX13_act 21 = .ok (.getfield 30, 3) := by decide +kernel
theorem dX13_act_24 : decode cX13_act 24 = .ok (.aload_n 0, 1) := by decide +kernel
theorem dX13_act_25 : decode cX13_act 25 = .ok (.getfield 253, 3) := by decide +kernel
theorem dX13_act_28 : decode cX13_act 28 = .ok (.dup2, 1) := by decide +kernel
theorem dX13_act_29 : decode cX13_act 29 = .ok (.iaload, 1) := by decide +kernel
theorem dX13_act_30 : decode cX13_act 30 = .ok (.iconst 1, 1) := by decide +kernel
theorem dX13_act_31 : decode cX13_act 31 = .ok (.iadd, 1) := by decide +kernel
theorem dX13_act_32 : decode cX13_act 32 = .ok (.iastore, 1) := by decide +kernel
theorem dX13_act_33 : decode cX13_act 33 = .ok (.aload_n 0, 1) := by decide +kernel
theorem dX13_act_34 : decode cX13_act 34 = .ok (.getfield 57, 3) := by decide +kernel
theorem dX13_act_37 : decode cX13_act 37 = .ok (.iload 5, 2) := by decide +kernel
theorem dX13_act_39 : decode cX13_act 39 = .ok (.iload_n 1, 1) := by decide +kernel
theorem dX13_act_40 : decode cX13_act 40 = .ok (.iastore, 1) := by decide +kernel
theorem dX13_act_41 : decode cX13_act 41 = .ok (.aload_n 0, 1) := by decide +kernel
theorem dX13_act_42 : decode cX13_act 42 = .ok (.getfield 60, 3) := by decide +kernel
theorem dX13_act_45 : decode cX13_act 45 = .ok (.iload 5, 2) := by decide +kernel
theorem dX13_act_47 : decode cX13_act 47 = .ok (.iload_n 2, 1) := by decide +kernel
theorem dX13_act_48 : decode cX13_act 48 = .ok (.iastore, 1) := by decide +kernel
theorem dX13_act_49 : decode cX13_act 49 = .ok (.aload_n 0, 1) := by decide +kernel
theorem dX13_act_50 : decode cX13_act 50 = .ok (.getfield 63, 3) := by decide +kernel
theorem dX13_act_53 : decode cX13_act 53 = .ok (.iload 5, 2) := by decide +kernel
theorem dX13_act_55 : decode cX13_act 55 = .ok (.lload_n 3, 1) := by decide +kernel
theorem dX13_act_56 : decode cX13_act 56 = .ok (.lastore, 1) := by decide +kernel
theorem dX13_act_57 : decode cX13_act 57 = .ok (.return_, 1) := by decide +kernel
theorem dX13_add_0 : decode cX13_add 0 = .ok (.aload_n 0, 1) := by decide +kernel
theorem dX13_add_1 : decode cX13_add 1 = .ok (.iconst 0, 1) := by decide +kernel
theorem dX13_add_2 : decode cX13_add 2 = .ok (.putfield 173, 3) := by decide +kernel
theorem dX13_add_5 : decode cX13_add 5 = .ok (.aload_n 0, 1) := by decide +kernel
theorem dX13_add_6 : decode cX13_add 6 = .ok (.iload_n 1, 1) := by decide +kernel
theorem dX13_add_7 : decode cX13_add 7 = .ok (.invokevirtual 431, 3) := by decide +kernel
theorem dX13_add_10 : decode cX13_add 10 = .ok (.ifCond .eq 26, 3) := by decide +kernel
theorem dX13_add_13 : decode cX13_add 13 = .ok (.iload_n 2, 1) := by decide +kernel
theorem dX13_add_14 : decode cX13_add 14 = .ok (.ifCond .lt 22, 3) := by decide +kernel
theorem dX13_add_17 : decode cX13_add 17 = .ok (.iload_n 2, 1) := by decide +kernel
theorem dX13_add_18 : decode cX13_add 18 = .ok (.aload_n 0, 1) := by decide +kernel
theorem dX13_add_19 : decode cX13_add 19 = .ok (.getfield 310, 3) := by decide +kernel
theorem dX13_add_22 : decode cX13_add 22 = .ok (.if_icmp .ge 14, 3) := by decide +kernel
theorem dX13_add_25 : decode cX13_add 25 = .ok (.aload_n 0, 1) := by decide +kernel
theorem dX13_add_26 : decode cX13_add 26 = .ok (.getfield 98, 3) := by decide +kernel
theorem dX13_add_29 : decode cX13_add 29 = .ok (.iload_n 1, 1) := by decide +kernel
theorem dX13_add_30 : decode cX13_add 30 = .ok (.iaload, 1) := by decide +kernel
theorem dX13_add_31 : decode cX13_add 31 = .ok (.bipush 16, 2) := by decide +kernel
theorem dX13_add_33 : decode cX13_add 33 = .ok (.if_icmp .ne 5, 3) := by decide +kernel
theorem dX13_add_36 : decode cX13_add 36 = .ok (.iconst (-1), 1) := by decide +kernel
theorem dX13_add_37 : decode cX13_add 37 = .ok (.ireturn, 1) := by decide +kernel
theorem dX13_add_38 : decode cX13_add 38 = .ok (.aload_n 0, 1) := by decide +kernel
theorem dX13_add_39 : decode cX13_add 39 = .ok (.getfield 95, 3) := by decide +kernel
theorem dX13_add_42 : decode cX13_add 42 = .ok (.bipush 16, 2) := by decide +kernel
theorem dX13_add_44 : decode cX13_add 44 = .ok (.iload_n 1, 1) := by decide +kernel
theorem dX13_add_45 : decode cX13_add 45 = .ok (.imul, 1) := by decide +kernel
theorem dX13_add_46 : decode cX13_add 46 = .ok (.aload_n 0, 1) := by decide +kernel
theorem dX13_add_47 : decode cX13_add 47 = .ok (.getfield 98, 3) := by decide +kernel
theorem dX13_add_50 : decode cX13_add 50 = .ok (.iload_n 1, 1) := by decide +kernel
theorem dX13_add_51 : decode cX13_add 51 = .ok (.iaload, 1) := by decide +kernel
theorem dX13_add_52 : decode cX13_add 52 = .ok (.iadd, 1) := by decide +kernel
theorem dX13_add_53 : decode cX13_add 53 = .ok (.iload_n 2, 1) := by decide +kernel
theorem dX13_add_54 : decode cX13_add 54 = .ok (.iastore, 1) := by decide +kernel
theorem dX13_add_55 : decode cX13_add 55 = .ok (.aload_n 0, 1) := by decide +kernel
theorem dX13_add_56 : decode cX13_add 56 = .ok (.getfield 98, 3) := by decide +kernel
theorem dX13_add_59 : decode cX13_add 59 = .ok (.iload_n 1, 1) := by decide +kernel
theorem dX13_add_60 : decode cX13_add 60 = .ok (.dup2, 1) := by decide +kernel
theorem dX13_add_61 : decode cX13_add 61 = .ok (.iaload, 1) := by decide +kernel
theorem dX13_add_62 : decode cX13_add 62 = .ok (.iconst 1, 1) := by decide +kernel
theorem dX13_add_63 : decode cX13_add 63 = .ok (.iadd, 1) := by decide +kernel
theorem dX13_add_64 : decode cX13_add 64 = .ok (.iastore, 1) := by decide +kernel
theorem dX13_add_65 : decode cX13_add 65 = .ok (.aload_n 0, 1) := by decide +kernel
theorem dX13_add_66 : decode cX13_add 66 = .ok (.getfield 98, 3) := by decide +kernel
theorem dX13_add_69 : decode cX13_add 69 = .ok (.iload_n 1, 1) := by decide +kernel
theorem dX13_add_70 : decode cX13_add 70 = .ok (.iaload, 1) := by decide +kernel
theorem dX13_add_71 : decode cX13_add 71 = .ok (.ireturn, 1) := by decide +kernel
theorem dX13_addRow_0 : decode cX13_addRow 0 = .ok (.aload_n 0, 1) := by decide +kernel
theorem dX13_addRow_1 : decode cX13_addRow 1 = .ok (.getfield 155, 3) := by decide +kernel
theorem dX13_addRow_4 : decode cX13_addRow 4 = .ok (.aload_n 0, 1) := by decide +kernel
theorem dX13_addRow_5 : decode cX13_addRow 5 = .ok (.getfield 386, 3) := by decide +kernel
theorem dX13_addRow_8 : decode cX13_addRow 8 = .ok (.iload_n 1, 1) := by decide +kernel
theorem dX13_addRow_9 : decode cX13_addRow 9 = .ok (.iastore, 1) := by decide +kernel
theorem dX13_addRow_10 : decode cX13_addRow 10 = .ok (.aload_n 0, 1) := by decide +kernel
theorem dX13_addRow_11 : decode cX13_addRow 11 = .ok (.getfield 158, 3) := by decide +kernel
theorem dX13_addRow_14 : decode cX13_addRow 14 = .ok (.aload_n 0, 1) := by decide +kernel
theorem dX13_addRow_15 : decode cX13_addRow 15 = .ok (.getfield 386, 3) := by decide +kernel
theorem dX13_addRow_18 : decode cX13_addRow 18 = .ok (.iload_n 2, 1) := by decide +kernel
theorem dX13_addRow_19 : decode cX13_addRow 19 = .ok (.iastore, 1) := by decide +kernel
theorem dX13_addRow_20 : decode cX13_addRow 20 = .ok (.aload_n 0, 1) := by decide +kernel
theorem dX13_addRow_21 : decode cX13_addRow 21 = .ok (.getfield 161, 3) := by decide +kernel
theorem dX13_addRow_24 : decode cX13_addRow 24 = .ok (.aload_n 0, 1) := by decide +kernel
theorem dX13_addRow_25 : decode cX13_addRow 25 = .ok (.getfield 386, 3) := by decide +kernel
theorem dX13_addRow_28 : decode cX13_addRow 28 = .ok (.iload_n 3, 1) := by decide +kernel
theorem dX13_addRow_29 : decode cX13_addRow 29 = .ok (.iastore, 1) := by decide +kernel
theorem dX13_addRow_30 : decode cX13_addRow 30 = .ok (.aload_n 0, 1) := by decide +kernel
theorem dX13_addRow_31 : decode cX13_addRow 31 = .ok (.getfield 164, 3) := by decide +kernel
theorem dX13_addRow_34 : decode cX13_addRow 34 = .ok (.aload_n 0, 1) := by decide +kernel
theorem dX13_addRow_35 : decode cX13_addRow 35 = .ok (.getfield 386, 3) := by decide +kernel
theorem dX13_addRow_38 : decode cX13_addRow 38 = .ok (.iload 4, 2) := by decide +kernel
theorem dX13_addRow_40 : decode cX13_addRow 40 = .ok (.iastore, 1) := by decide +kernel
theorem dX13_addRow_41 : decode cX13_addRow 41 = .ok (.aload_n 0, 1) := by decide +kernel
theorem dX13_addRow_42 : decode cX13_addRow 42 = .ok (.getfield 167, 3) := by decide +kernel
theorem dX13_addRow_45 : decode cX13_addRow 45 = .ok (.aload_n 0, 1) := by decide +kernel
theorem dX13_addRow_46 : decode cX13_addRow 46 = .ok (.getfield 386, 3) := by decide +kernel
theorem dX13_addRow_49 : decode cX13_addRow 49 = .ok (.iload 5, 2) := by decide +kernel
theorem dX13_addRow_51 : decode cX13_addRow 51 = .ok (.iastore, 1) := by decide +kernel
theorem dX13_addRow_52 : decode cX13_addRow 52 = .ok (.aload_n 0, 1) := by decide +kernel
theorem dX13_addRow_53 : decode cX13_addRow 53 = .ok (.getfield 170, 3) := by decide +kernel
theorem dX13_addRow_56 : decode cX13_addRow 56 = .ok (.aload_n 0, 1) := by decide +kernel
theorem dX13_addRow_57 : decode cX13_addRow 57 = .ok (.getfield 386, 3) := by decide +kernel
theorem dX13_addRow_60 : decode cX13_addRow 60 = .ok (.lload 6, 2) := by decide +kernel
theorem dX13_addRow_62 : decode cX13_addRow 62 = .ok (.lastore, 1) := by decide +kernel
theorem dX13_addRow_63 : decode cX13_addRow 63 = .ok (.aload_n 0, 1) := by decide +kernel
theorem dX13_addRow_64 : decode cX13_addRow 64 = .ok (.dup, 1) := by decide +kernel
theorem dX13_addRow_65 : decode cX13_addRow 65 = .ok (.getfield 386, 3) := by decide +kernel
theorem dX13_addRow_68 : decode cX13_addRow 68 = .ok (.iconst 1, 1) := by decide +kernel
theorem dX13_addRow_69 : decode cX13_addRow 69 = .ok (.iadd, 1) := by decide +kernel
theorem dX13_addRow_70 : decode cX13_addRow 70 = .ok (.putfield 386, 3) := by decide +kernel
theorem dX13_addRow_73 : decode cX13_addRow 73 = .ok (.return_, 1) := by decide +kernel
theorem dX13_around_0 : decode cX13_around 0 = .ok (.iload_n 1, 1) := by decide +kernel
theorem dX13_around_1 : decode cX13_around 1 = .ok (.istore_n 3, 1) := by decide +kernel
theorem dX13_around_2 : decode cX13_around 2 = .ok (.iload_n 3, 1) := by decide +kernel
theorem dX13_around_3 : decode cX13_around 3 = .ok (.ifCond .lt 45, 3) := by decide +kernel
theorem dX13_around_6 : decode cX13_around 6 = .ok (.aload_n 0, 1) := by decide +kernel
theorem dX13_around_7 : decode cX13_around 7 = .ok (.getfield 39, 3) := by decide +kernel
theorem dX13_around_10 : decode cX13_around 10 = .ok (.iload_n 3, 1) := by decide +kernel
theorem dX13_around_11 : decode cX13_around 11 = .ok (.iaload, 1) := by decide +kernel
theorem dX13_around_12 : decode cX13_around 12 = .ok (.istore 4, 2) := by decide +kernel
theorem dX13_around_14 : decode cX13_around 14 = .ok (.iload 4, 2) := by decide +kernel
theorem dX13_around_16 : decode cX13_around 16 = .ok (.ifCond .lt 26, 3) := by decide +kernel
theorem dX13_around_19 : decode cX13_around 19 = .ok (.aload_n 0, 1) := by decide +kernel
theorem dX13_around_20 : decode cX13_around 20 = .ok (.getfield 33, 3) := by decide +kernel
theorem dX13_around_23 : decode cX13_around 23 = .ok (.iload 4, 2) := by decide +kernel
theorem dX13_around_25 : decode cX13_around 25 = .ok (.iaload, 1) := by decide +kernel
theorem dX13_around_26 : decode cX13_around 26 = .ok (.iload_n 2, 1) := by decide +kernel
theorem dX13_around_27 : decode cX13_around 27 = .ok (.if_icmp .ne 15, 3) := by decide +kernel
theorem dX13_around_30 : decode cX13_around 30 = .ok (.aload_n 0, 1) := by decide +kernel
theorem dX13_around_31 : decode cX13_around 31 = .ok (.getfield 42, 3) := by decide +kernel
theorem dX13_around_34 : decode cX13_around 34 = .ok (.iload_n 3, 1) := by decide +kernel
theorem dX13_around_35 : decode cX13_around 35 = .ok (.iaload, 1) := by decide +kernel
theorem dX13_around_36 : decode cX13_around 36 = .ok (.ifCond .ne 6, 3) := by decide +kernel
theorem dX13_around_39 : decode cX13_around 39 = .ok (.iload 4, 2) := by decide +kernel
theorem dX13_around_41 : decode cX13_around 41 = .ok (.ireturn, 1) := by decide +kernel
theorem dX13_around_42 : decode cX13_around 42 = .ok (.iload 4, 2) := by decide +kernel
theorem dX13_around_44 : decode cX13_around 44 = .ok (.istore_n 3, 1) := by decide +kernel
theorem dX13_around_45 : decode cX13_around 45 = .ok (.goto (-43), 3) := by decide +kernel
theorem dX13_around_48 : decode cX13_around 48 = .ok (.iconst (-1), 1) := by decide +kernel
theorem dX13_around_49 : decode cX13_around 49 = .ok (.ireturn, 1) := by decide +kernel
theorem dX13_beginRun_0 : decode cX13_beginRun 0 = .ok (.aload_n 0, 1) := by decide +kernel
theorem dX13_beginRun_1 : decode cX13_beginRun 1 = .ok (.iconst 0, 1) := by decide +kernel
theorem dX13_beginRun_2 : decode cX13_beginRun 2 = .ok (.putfield 316, 3) := by decide +kernel
theorem dX13_beginRun_5 : decode cX13_beginRun 5 = .ok (.aload_n 0, 1) := by decide +kernel
theorem dX13_beginRun_6 : decode cX13_beginRun 6 = .ok (.iload_n 1, 1) := by decide +kernel
theorem dX13_beginRun_7 : decode cX13_beginRun 7 = .ok (.invokevirtual 345, 3) := by decide +kernel
theorem dX13_beginRun_10 : decode cX13_beginRun 10 = .ok (.return_, 1) := by decide +kernel
theorem dX13_beginWalk_0 : decode cX13_beginWalk 0 = .ok (.aload_n 0, 1) := by decide +kernel
theorem dX13_beginWalk_1 : decode cX13_beginWalk 1 = .ok (.iconst 0, 1) := by decide +kernel
theorem dX13_beginWalk_2 : decode cX13_beginWalk 2 = .ok (.putfield 322, 3) := by decide +kernel
theorem dX13_beginWalk_5 : decode cX13_beginWalk 5 = .ok (.aload_n 0, 1) := by decide +kernel
theorem dX13_beginWalk_6 : decode cX13_beginWalk 6 = .ok (.iconst 0, 1) := by decide +kernel
theorem dX13_beginWalk_7 : decode cX13_beginWalk 7 = .ok (.putfield 348, 3) := by decide +kernel
theorem dX13_beginWalk_10 : decode cX13_beginWalk 10 = .ok (.iconst 0, 1) := by decide +kernel
theorem dX13_beginWalk_11 : decode cX13_beginWalk 11 = .ok (.istore_n 2, 1) := by decide +kernel
theorem dX13_beginWalk_12 : decode cX13_beginWalk 12 = .ok (.iload_n 2, 1) := by decide +kernel
theorem dX13_beginWalk_13 : decode cX13_beginWalk 13 = .ok (.bipush 10, 2) := by decide +kernel
theorem dX13_beginWalk_15 : decode cX13_beginWalk 15 = .ok (.if_icmp .ge 16, 3) := by decide +kernel
theorem dX13_beginWalk_18 : decode cX13_beginWalk 18 = .ok (.aload_n 0, 1) := by decide +kernel
theorem dX13_beginWalk_19 : decode cX13_beginWalk 19 = .ok (.getfield 131, 3) := by decide +kernel
theorem dX13_beginWalk_22 : decode cX13_beginWalk 22 = .ok (.iload_n 2, 1) := by decide +kernel
theorem dX13_beginWalk_23 : decode cX13_beginWalk 23 = .ok (.lconst 0, 1) := by decide +kernel
theorem dX13_beginWalk_24 : decode cX13_beginWalk 24 = .ok (.lastore, 1) := by decide +kernel
theorem dX13_beginWalk_25 : decode cX13_beginWalk 25 = .ok (.iinc 2 1, 3) := by decide +kernel
theorem dX13_beginWalk_28 : decode cX13_beginWalk 28 = .ok (.goto (-16), 3) := by decide +kernel
theorem dX13_beginWalk_31 : decode cX13_beginWalk 31 = .ok (.aload_n 0, 1) := by decide +kernel
theorem dX13_beginWalk_32 : decode cX13_beginWalk 32 = .ok (.aload_n 0, 1) := by decide +kernel
theorem dX13_beginWalk_33 : decode cX13_beginWalk 33 = .ok (.getfield 27, 3) := by decide +kernel
theorem dX13_beginWalk_36 : decode cX13_beginWalk 36 = .ok (.iload_n 1, 1) := by decide +kernel
theorem dX13_beginWalk_37 : decode cX13_beginWalk 37 = .ok (.iaload, 1) := by decide +kernel
theorem dX13_beginWalk_38 : decode cX13_beginWalk 38 = .ok (.putfield 351, 3) := by decide +kernel
theorem dX13_beginWalk_41 : decode cX13_beginWalk 41 = .ok (.return_, 1) := by decide +kernel
theorem dX13_behind_0 : decode cX13_behind 0 = .ok (.iload_n 1, 1) := by decide +kernel
theorem dX13_behind_1 : decode cX13_behind 1 = .ok (.istore_n 2, 1) := by decide +kernel
theorem dX13_behind_2 : decode cX13_behind 2 = .ok (.iload_n 2, 1) := by decide +kernel
theorem dX13_behind_3 : decode cX13_behind 3 = .ok (.ifCond .lt 35, 3) := by decide +kernel
theorem dX13_behind_6 : decode cX13_behind 6 = .ok (.aload_n 0, 1) := by decide +kernel
theorem dX13_behind_7 : decode cX13_behind 7 = .ok (.getfield 36, 3) := by decide +kernel
theorem dX13_behind_10 : decode cX13_behind 10 = .ok (.iload_n 2, 1) := by decide +kernel
theorem dX13_behind_11 : decode cX13_behind 11 = .ok (.iaload, 1) := by decide +kernel
theorem dX13_behind_12 : decode cX13_behind 12 = .ok (.ifCond .ge 26, 3) := by decide +kernel
theorem dX13_behind_15 : decode cX13_behind 15 = .ok (.aload_n 0, 1) := by decide +kernel
theorem dX13_behind_16 : decode cX13_behind 16 = .ok (.getfield 39, 3) := by decide +kernel
theorem dX13_behind_19 : decode cX13_behind 19 = .ok (.iload_n 2, 1) := by decide +kernel
theorem dX13_behind_20 : decode cX13_behind 20 = .ok (.iaload, 1) := by decide +kernel
theorem dX13_behind_21 : decode cX13_behind 21 = .ok (.istore_n 2, 1) := by decide +kernel
theorem dX13_behind_22 : decode cX13_behind 22 = .ok (.iload_n 2, 1) := by decide +kernel
theorem dX13_behind_23 : decode cX13_behind 23 = .ok (.ifCond .lt (-21), 3) := by decide +kernel
theorem dX13_behind_26 : decode cX13_behind 26 = .ok (.aload_n 0, 1) := by decide +kernel
theorem dX13_behind_27 : decode cX13_behind 27 = .ok (.getfield 33, 3) := by decide +kernel
theorem dX13_behind_30 : decode cX13_behind 30 = .ok (.iload_n 2, 1) := by decide +kernel
theorem dX13_behind_31 : decode cX13_behind 31 = .ok (.iaload, 1) := by decide +kernel
theorem dX13_behind_32 : decode cX13_behind 32 = .ok (.iconst 2, 1) := by decide +kernel
theorem dX13_behind_33 : decode cX13_behind 33 = .ok (.if_icmp .ne (-31), 3) := by decide +kernel
theorem dX13_behind_36 : decode cX13_behind 36 = .ok (.iload_n 2, 1) := by decide +kernel
theorem dX13_behind_37 : decode cX13_behind 37 = .ok (.ireturn, 1) := by decide +kernel
theorem dX13_behind_38 : decode cX13_behind 38 = .ok (.iload_n 2, 1) := by decide +kernel
theorem dX13_behind_39 : decode cX13_behind 39 = .ok (.ifCond .ge 7, 3) := by decide +kernel
theorem dX13_behind_42 : decode cX13_behind 42 = .ok (.iconst (-1), 1) := by decide +kernel
theorem dX13_behind_43 : decode cX13_behind 43 = .ok (.goto 9, 3) := by decide +kernel
theorem dX13_behind_46 : decode cX13_behind 46 = .ok (.aload_n 0, 1) := by decide +kernel
theorem dX13_behind_47 : decode cX13_behind 47 = .ok (.getfield 36, 3) := by decide +kernel
theorem dX13_behind_50 : decode cX13_behind 50 = .ok (.iload_n 2, 1) := by decide +kernel
theorem dX13_behind_51 : decode cX13_behind 51 = .ok (.iaload, 1) := by decide +kernel
theorem dX13_behind_52 : decode cX13_behind 52 = .ok (.ireturn, 1) := by decide +kernel
theorem dX13_bringBack_0 : decode cX13_bringBack 0 = .ok (.aload_n 0, 1) := by decide +kernel
theorem dX13_bringBack_1 : decode cX13_bringBack 1 = .ok (.aload_n 0, 1) := by decide +kernel
theorem dX13_bringBack_2 : decode cX13_bringBack 2 = .ok (.getfield 137, 3) := by decide +kernel
theorem dX13_bringBack_5 : decode cX13_bringBack 5 = .ok (.iload_n 1, 1) := by decide +kernel
theorem dX13_bringBack_6 : decode cX13_bringBack 6 = .ok (.iaload, 1) := by decide +kernel
theorem dX13_bringBack_7 : decode cX13_bringBack 7 = .ok (.putfield 322, 3) := by decide +kernel
theorem dX13_bringBack_10 : decode cX13_bringBack 10 = .ok (.aload_n 0, 1) := by decide +kernel
theorem dX13_bringBack_11 : decode cX13_bringBack 11 = .ok (.aload_n 0, 1) := by decide +kernel
theorem dX13_bringBack_12 : decode cX13_bringBack 12 = .ok (.getfield 146, 3) := by decide +kernel
theorem dX13_bringBack_15 : decode cX13_bringBack 15 = .ok (.iload_n 1, 1) := by decide +kernel
theorem dX13_bringBack_16 : decode cX13_bringBack 16 = .ok (.iaload, 1) := by decide +kernel
theorem dX13_bringBack_17 : decode cX13_bringBack 17 = .ok (.putfield 348, 3) := by decide +kernel
theorem dX13_bringBack_20 : decode cX13_bringBack 20 = .ok (.iconst 0, 1) := by decide +kernel
theorem dX13_bringBack_21 : decode cX13_bringBack 21 = .ok (.istore_n 2, 1) := by decide +kernel
theorem dX13_bringBack_22 : decode cX13_bringBack 22 = .ok (.iload_n 2, 1) := by decide +kernel
theorem dX13_bringBack_23 : decode cX13_bringBack 23 = .ok (.bipush 16, 2) := by decide +kernel
theorem dX13_bringBack_25 : decode cX13_bringBack 25 = .ok (.if_icmp .ge 26, 3) := by decide +kernel
theorem dX13_bringBack_28 : decode cX13_bringBack 28 = .ok (.aload_n 0, 1) := by decide +kernel
theorem dX13_bringBack_29 : decode cX13_bringBack 29 = .ok (.getfield 128, 3) := by decide +kernel
theorem dX13_bringBack_32 : decode cX13_bringBack 32 = .ok (.iload_n 2, 1) := by decide +kernel
theorem dX13_bringBack_33 : decode cX13_bringBack 33 = .ok (.aload_n 0, 1) := by decide +kernel
theorem dX13_bringBack_34 : decode cX13_bringBack 34 = .ok (.getfield 140, 3) := by decide +kernel
theorem dX13_bringBack_37 : decode cX13_bringBack 37 = .ok (.bipush 16, 2) := by decide +kernel
theorem dX13_bringBack_39 : decode cX13_bringBack 39 = .ok (.iload_n 1, 1) := by decide +kernel
theorem dX13_bringBack_40 : decode cX13_bringBack 40 = .ok (.imul, 1) := by decide +kernel
theorem dX13_bringBack_41 : decode cX13_bringBack 41 = .ok (.iload_n 2, 1) := by decide +kernel
theorem dX13_bringBack_42 : decode cX13_bringBack 42 = .ok (.iadd, 1) := by decide +kernel
theorem dX13_bringBack_43 : decode cX13_bringBack 43 = .ok (.laload, 1) := by decide +kernel
theorem dX13_bringBack_44 : decode cX13_bringBack 44 = .ok (.lastore, 1) := by decide +kernel
theorem dX13_bringBack_45 : decode cX13_bringBack 45 = .ok (.iinc 2 1, 3) := by decide +kernel
theorem dX13_bringBack_48 : decode cX13_bringBack 48 = .ok (.goto (-26), 3) := by decide +kernel
theorem dX13_bringBack_51 : decode cX13_bringBack 51 = .ok (.iconst 0, 1) := by decide +kernel
theorem dX13_bringBack_52 : decode cX13_bringBack 52 = .ok (.istore_n 2, 1) := by decide +kernel
theorem dX13_bringBack_53 : decode cX13_bringBack 53 = .ok (.iload_n 2, 1) := by decide +kernel
theorem dX13_bringBack_54 : decode cX13_bringBack 54 = .ok (.bipush 10, 2) := by decide +kernel
theorem dX13_bringBack_56 : decode cX13_bringBack 56 = .ok (.if_icmp .ge 26, 3) := by decide +kernel
theorem dX13_bringBack_59 : decode cX13_bringBack 59 = .ok (.aload_n 0, 1) := by decide +kernel
theorem dX13_bringBack_60 : decode cX13_bringBack 60 = .ok (.getfield 131, 3) := by decide +kernel
theorem dX13_bringBack_63 : decode cX13_bringBack 63 = .ok (.iload_n 2, 1) := by decide +kernel
theorem dX13_bringBack_64 : decode cX13_bringBack 64 = .ok (.aload_n 0, 1) := by decide +kernel
theorem dX13_bringBack_65 : decode cX13_bringBack 65 = .ok (.getfield 143, 3) := by decide +kernel
theorem dX13_bringBack_68 : decode cX13_bringBack 68 = .ok (.bipush 10, 2) := by decide +kernel
theorem dX13_bringBack_70 : decode cX13_bringBack 70 = .ok (.iload_n 1, 1) := by decide +kernel
theorem dX13_bringBack_71 : decode cX13_bringBack 71 = .ok (.imul, 1) := by decide +kernel
theorem dX13_bringBack_72 : decode cX13_bringBack 72 = .ok (.iload_n 2, 1) := by decide +kernel
theorem dX13_bringBack_73 : decode cX13_bringBack 73 = .ok (.iadd, 1) := by decide +kernel
theorem dX13_bringBack_74 : decode cX13_bringBack 74 = .ok (.laload, 1) := by decide +kernel
theorem dX13_bringBack_75 : decode cX13_bringBack 75 = .ok (.lastore, 1) := by decide +kernel
theorem dX13_bringBack_76 : decode cX13_bringBack 76 = .ok (.iinc 2 1, 3) := by decide +kernel
theorem dX13_bringBack_79 : decode cX13_bringBack 79 = .ok (.goto (-26), 3) := by decide +kernel
theorem dX13_bringBack_82 : decode cX13_bringBack 82 = .ok (.return_, 1) := by decide +kernel
theorem dX13_bringIn_0 : decode cX13_bringIn 0 = .ok (.iconst 0, 1) := by decide +kernel
theorem dX13_bringIn_1 : decode cX13_bringIn 1 = .ok (.istore_n 1, 1) := by decide +kernel
theorem dX13_bringIn_2 : decode cX13_bringIn 2 = .ok (.iload_n 1, 1) := by decide +kernel
theorem dX13_bringIn_3 : decode cX13_bringIn 3 = .ok (.bipush 16, 2) := by decide +kernel
theorem dX13_bringIn_5 : decode cX13_bringIn 5 = .ok (.if_icmp .ge 59, 3) := by decide +kernel
theorem dX13_bringIn_8 : decode cX13_bringIn 8 = .ok (.aload_n 0, 1) := by decide +kernel
theorem dX13_bringIn_9 : decode cX13_bringIn 9 = .ok (.getfield 322, 3) := by decide +kernel
theorem dX13_bringIn_12 : decode cX13_bringIn 12 = .ok (.iload_n 1, 1) := by decide +kernel
theorem dX13_bringIn_13 : decode cX13_bringIn 13 = .ok (.ishr, 1) := by decide +kernel
theorem dX13_bringIn_14 : decode cX13_bringIn 14 = .ok (.iconst 1, 1) := by decide +kernel
theorem dX13_bringIn_15 : decode cX13_bringIn 15 = .ok (.iand, 1) := by decide +kernel
theorem dX13_bringIn_16 : decode cX13_bringIn 16 = .ok (.iconst 1, 1) := by decide +kernel
theorem dX13_bringIn_17 : decode cX13_bringIn 17 = .ok (.if_icmp .ne 41, 3) := by decide +kernel
theorem dX13_bringIn_20 : decode cX13_bringIn 20 = .ok (.aload_n 0, 1) := by decide +kernel
theorem dX13_bringIn_21 : decode cX13_bringIn 21 = .ok (.getfield 83, 3) := by decide +kernel
theorem dX13_bringIn_24 : decode cX13_bringIn 24 = .ok (.bipush 16, 2) := by decide +kernel
theorem dX13_bringIn_26 : decode cX13_bringIn 26 = .ok (.aload_n 0, 1) := by decide +kernel
theorem dX13_bringIn_27 : decode cX13_bringIn 27 = .ok (.getfield 319, 3) := by decide +kernel
theorem dX13_bringIn_30 : decode cX13_bringIn 30 = .ok (.imul, 1) := by decide +kernel
theorem dX13_bringIn_31 : decode cX13_bringIn 31 = .ok (.iload_n 1, 1) := by decide +kernel
theorem dX13_bringIn_32 : decode cX13_bringIn 32 = .ok (.iadd, 1) := by decide +kernel
theorem dX13_bringIn_33 : decode cX13_bringIn 33 = .ok (.aload_n 0, 1) := by decide +kernel
theorem dX13_bringIn_34 : decode cX13_bringIn 34 = .ok (.getfield 128, 3) := by decide +kernel
theorem dX13_bringIn_37 : decode cX13_bringIn 37 = .ok (.iload_n 1, 1) := by decide +kernel
theorem dX13_bringIn_38 : decode cX13_bringIn 38 = .ok (.laload, 1) := by decide +kernel
theorem dX13_bringIn_39 : decode cX13_bringIn 39 = .ok (.lastore, 1) := by decide +kernel
theorem dX13_bringIn_40 : decode cX13_bringIn 40 = .ok (.aload_n 0, 1) := by decide +kernel
theorem dX13_bringIn_41 : decode cX13_bringIn 41 = .ok (.getfield 86, 3) := by decide +kernel
theorem dX13_bringIn_44 : decode cX13_bringIn 44 = .ok (.bipush 16, 2) := by decide +kernel
theorem dX13_bringIn_46 : decode cX13_bringIn 46 = .ok (.aload_n 0, 1) := by decide +kernel
theorem dX13_bringIn_47 : decode cX13_bringIn 47 = .ok (.getfield 319, 3) := by decide +kernel
theorem dX13_bringIn_50 : decode cX13_bringIn 50 = .ok (.imul, 1) := by decide +kernel
theorem dX13_bringIn_51 : decode cX13_bringIn 51 = .ok (.iload_n 1, 1) := by decide +kernel
theorem dX13_bringIn_52 : decode cX13_bringIn 52 = .ok (.iadd, 1) := by decide +kernel
theorem dX13_bringIn_53 : decode cX13_bringIn 53 = .ok (.dup2, 1) := by decide +kernel
theorem dX13_bringIn_54 : decode cX13_bringIn 54 = .ok (.iaload, 1) := by decide +kernel
theorem dX13_bringIn_55 : decode cX13_bringIn 55 = .ok (.iconst 1, 1) := by decide +kernel
theorem dX13_bringIn_56 : decode cX13_bringIn 56 = .ok (.iadd, 1) := by decide +kernel
theorem dX13_bringIn_57 : decode cX13_bringIn 57 = .ok (.iastore, 1) := by decide +kernel
theorem dX13_bringIn_58 : decode cX13_bringIn 58 = .ok (.iinc 1 1, 3) := by decide +kernel
theorem dX13_bringIn_61 : decode cX13_bringIn 61 = .ok (.goto (-59), 3) := by decide +kernel
theorem dX13_bringIn_64 : decode cX13_bringIn 64 = .ok (.iconst 0, 1) := by decide +kernel
theorem dX13_bringIn_65 : decode cX13_bringIn 65 = .ok (.istore_n 1, 1) := by decide +kernel
theorem dX13_bringIn_66 : decode cX13_bringIn 66 = .ok (.iload_n 1, 1) := by decide +kernel
theorem dX13_bringIn_67 : decode cX13_bringIn 67 = .ok (.aload_n 0, 1) := by decide +kernel
theorem dX13_bringIn_68 : decode cX13_bringIn 68 = .ok (.getfield 348, 3) := by decide +kernel
theorem dX13_bringIn_71 : decode cX13_bringIn 71 = .ok (.if_icmp .ge 50, 3) := by decide +kernel
theorem dX13_bringIn_74 : decode cX13_bringIn 74 = .ok (.aload_n 0, 1) := by decide +kernel
theorem dX13_bringIn_75 : decode cX13_bringIn 75 = .ok (.getfield 92, 3) := by decide +kernel
theorem dX13_bringIn_78 : decode cX13_bringIn 78 = .ok (.bipush 32, 2) := by decide +kernel
theorem dX13_bringIn_80 : decode cX13_bringIn 80 = .ok (.aload_n 0, 1) := by decide +kernel
theorem dX13_bringIn_81 : decode cX13_bringIn 81 = .ok (.getfield 319, 3) := by decide +kernel
theorem dX13_bringIn_84 : decode cX13_bringIn 84 = .ok (.imul, 1) := by decide +kernel
theorem dX13_bringIn_85 : decode cX13_bringIn 85 = .ok (.aload_n 0, 1) := by decide +kernel
theorem dX13_bringIn_86 : decode cX13_bringIn 86 = .ok (.getfield 89, 3) := by decide +kernel
theorem dX13_bringIn_89 : decode cX13_bringIn 89 = .ok (.aload_n 0, 1) := by decide +kernel
theorem dX13_bringIn_90 : decode cX13_bringIn 90 = .ok (.getfield 319, 3) := by decide +kernel
theorem dX13_bringIn_93 : decode cX13_bringIn 93 = .ok (.iaload, 1) := by decide +kernel
theorem dX13_bringIn_94 : decode cX13_bringIn 94 = .ok (.iadd, 1) := by decide +kernel
theorem dX13_bringIn_95 : decode cX13_bringIn 95 = .ok (.aload_n 0, 1) := by decide +kernel
theorem dX13_bringIn_96 : decode cX13_bringIn 96 = .ok (.getfield 134, 3) := by decide +kernel
theorem dX13_bringIn_99 : decode cX13_bringIn 99 = .ok (.iload_n 1, 1) := by decide +kernel
theorem dX13_bringIn_100 : decode cX13_bringIn 100 = .ok (.iaload, 1) := by decide +kernel
theorem dX13_bringIn_101 : decode cX13_bringIn 101 = .ok (.iastore, 1) := by decide +kernel
theorem dX13_bringIn_102 : decode cX13_bringIn 102 = .ok (.aload_n 0, 1) := by decide +kernel
theorem dX13_bringIn_103 : decode cX13_bringIn 103 = .ok (.getfield 89, 3) := by decide +kernel
theorem dX13_bringIn_106 : decode cX13_bringIn 106 = .ok (.aload_n 0, 1) := by decide +kernel
theorem dX13_bringIn_107 : decode cX13_bringIn 107 = .ok (.getfield 319, 3) := by decide +kernel
theorem dX13_bringIn_110 : decode cX13_bringIn 110 = .ok (.dup2, 1) := by decide +kernel
theorem dX13_bringIn_111 : decode cX13_bringIn 111 = .ok (.iaload, 1) := by decide +kernel
theorem dX13_bringIn_112 : decode cX13_bringIn 112 = .ok (.iconst 1, 1) := by decide +kernel
theorem dX13_bringIn_113 : decode cX13_bringIn 113 = .ok (.iadd, 1) := by decide +kernel
theorem dX13_bringIn_114 : decode cX13_bringIn 114 = .ok (.iastore, 1) := by decide +kernel
theorem dX13_bringIn_115 : decode cX13_bringIn 115 = .ok (.iinc 1 1, 3) := by decide +kernel
theorem dX13_bringIn_118 : decode cX13_bringIn 118 = .ok (.goto (-52), 3) := by decide +kernel
theorem dX13_bringIn_121 : decode cX13_bringIn 121 = .ok (.return_, 1) := by decide +kernel
theorem dX13_bringRead_0 : decode cX13_bringRead 0 = .ok (.aload_n 0, 1) := by decide +kernel
theorem dX13_bringRead_1 : decode cX13_bringRead 1 = .ok (.aload_n 0, 1) := by decide +kernel
theorem dX13_bringRead_2 : decode cX13_bringRead 2 = .ok (.getfield 113, 3) := by decide +kernel
theorem dX13_bringRead_5 : decode cX13_bringRead 5 = .ok (.iload_n 1, 1) := by decide +kernel
theorem dX13_bringRead_6 : decode cX13_bringRead 6 = .ok (.iaload, 1) := by decide +kernel
theorem dX13_bringRead_7 : decode cX13_bringRead 7 = .ok (.putfield 316, 3) := by decide +kernel
theorem dX13_bringRead_10 : decode cX13_bringRead 10 = .ok (.iconst 0, 1) := by decide +kernel
theorem dX13_bringRead_11 : decode cX13_bringRead 11 = .ok (.istore_n 2, 1) := by decide +kernel
theorem dX13_bringRead_12 : decode cX13_bringRead 12 = .ok (.iload_n 2, 1) := by decide +kernel
theorem dX13_bringRead_13 : decode cX13_bringRead 13 = .ok (.bipush 16, 2) := by decide +kernel
theorem dX13_bringRead_15 : decode cX13_bringRead 15 = .ok (.if_icmp .ge 43, 3) := by decide +kernel
theorem dX13_bringRead_18 : decode cX13_bringRead 18 = .ok (.aload_n 0, 1) := by decide +kernel
theorem dX13_bringRead_19 : decode cX13_bringRead 19 = .ok (.getfield 122, 3) := by decide +kernel
theorem dX13_bringRead_22 : decode cX13_bringRead 22 = .ok (.iload_n 2, 1) := by decide +kernel
theorem dX13_bringRead_23 : decode cX13_bringRead 23 = .ok (.aload_n 0, 1) := by decide +kernel
theorem dX13_bringRead_24 : decode cX13_bringRead 24 = .ok (.getfield 116, 3) := by decide +kernel
theorem dX13_bringRead_27 : decode cX13_bringRead 27 = .ok (.bipush 16, 2) := by decide +kernel
theorem dX13_bringRead_29 : decode cX13_bringRead 29 = .ok (.iload_n 1, 1) := by decide +kernel
theorem dX13_bringRead_30 : decode cX13_bringRead 30 = .ok (.imul, 1) := by decide +kernel
theorem dX13_bringRead_31 : decode cX13_bringRead 31 = .ok (.iload_n 2, 1) := by decide +kernel
theorem dX13_bringRead_32 : decode cX13_bringRead 32 = .ok (.iadd, 1) := by decide +kernel
theorem dX13_bringRead_33 : decode cX13_bringRead 33 = .ok (.laload, 1) := by decide +kernel
theorem dX13_bringRead_34 : decode cX13_bringRead 34 = .ok (.lastore, 1) := by decide +kernel
theorem dX13_bringRead_35 : decode cX13_bringRead 35 = .ok (.aload_n 0, 1) := by decide +kernel
theorem dX13_bringRead_36 : decode cX13_bringRead 36 = .ok (.getfield 125, 3) := by decide +kernel
theorem dX13_bringRead_39 : decode cX13_bringRead 39 = .ok (.iload_n 2, 1) := by decide +kernel
theorem dX13_bringRead_40 : decode cX13_bringRead 40 = .ok (.aload_n 0, 1) := by decide +kernel
theorem dX13_bringRead_41 : decode cX13_bringRead 41 = .ok (.getfield 119, 3) := by decide +kernel
theorem dX13_bringRead_44 : decode cX13_bringRead 44 = .ok (.bipush 16, 2) := by decide +kernel
theorem dX13_bringRead_46 : decode cX13_bringRead 46 = .ok (.iload_n 1, 1) := by decide +kernel
theorem dX13_bringRead_47 : decode cX13_bringRead 47 = .ok (.imul, 1) := by decide +kernel
theorem dX13_bringRead_48 : decode cX13_bringRead 48 = .ok (.iload_n 2, 1) := by decide +kernel
theorem dX13_bringRead_49 : decode cX13_bringRead 49 = .ok (.iadd, 1) := by decide +kernel
theorem dX13_bringRead_50 : decode cX13_bringRead 50 = .ok (.iaload, 1) := by decide +kernel
theorem dX13_bringRead_51 : decode cX13_bringRead 51 = .ok (.iastore, 1) := by decide +kernel
theorem dX13_bringRead_52 : decode cX13_bringRead 52 = .ok (.iinc 2 1, 3) := by decide +kernel
theorem dX13_bringRead_55 : decode cX13_bringRead 55 = .ok (.goto (-43), 3) := by decide +kernel
theorem dX13_bringRead_58 : decode cX13_bringRead 58 = .ok (.return_, 1) := by decide +kernel
theorem dX13_byteAt_0 : decode cX13_byteAt 0 = .ok (.iload_n 1, 1) := by decide +kernel
theorem dX13_byteAt_1 : decode cX13_byteAt 1 = .ok (.aload_n 0, 1) := by decide +kernel
theorem dX13_byteAt_2 : decode cX13_byteAt 2 = .ok (.getfield 176, 3) := by decide +kernel
theorem dX13_byteAt_5 : decode cX13_byteAt 5 = .ok (.if_icmp .ge 16, 3) := by decide +kernel
theorem dX13_byteAt_8 : decode cX13_byteAt 8 = .ok (.aload_n 0, 1) := by decide +kernel
theorem dX13_byteAt_9 : decode cX13_byteAt 9 = .ok (.getfield 7, 3) := by decide +kernel
theorem dX13_byteAt_12 : decode cX13_byteAt 12 = .ok (.iload_n 1, 1) := by decide +kernel
theorem dX13_byteAt_13 : decode cX13_byteAt 13 = .ok (.baload, 1) := by decide +kernel
theorem dX13_byteAt_14 : decode cX13_byteAt 14 = .ok (.sipush 255, 3) := by decide +kernel
theorem dX13_byteAt_17 : decode cX13_byteAt 17 = .ok (.iand, 1) := by decide +kernel
theorem dX13_byteAt_18 : decode cX13_byteAt 18 = .ok (.goto 4, 3) := by decide +kernel
theorem dX13_byteAt_21 : decode cX13_byteAt 21 = .ok (.iconst (-1), 1) := by decide +kernel
theorem dX13_byteAt_22 : decode cX13_byteAt 22 = .ok (.ireturn, 1) := by decide +kernel
theorem dX13_cell_0 : decode cX13_cell 0 = .ok (.aload_n 0, 1) := by decide +kernel
theorem dX13_cell_1 : decode cX13_cell 1 = .ok (.iconst 0, 1) := by decide +kernel
theorem dX13_cell_2 : decode cX13_cell 2 = .ok (.putfield 173, 3) := by decide +kernel
theorem dX13_cell_5 : decode cX13_cell 5 = .ok (.iload_n 1, 1) := by decide +kernel
theorem dX13_cell_6 : decode cX13_cell 6 = .ok (.ifCond .lt 9, 3) := by decide +kernel
theorem dX13_cell_9 : decode cX13_cell 9 = .ok (.iload_n 1, 1) := by decide +kernel
theorem dX13_cell_10 : decode cX13_cell 10 = .ok (.bipush 16, 2) := by decide +kernel
theorem dX13_cell_12 : decode cX13_cell 12 = .ok (.if_icmp .lt 7, 3) := by decide +kernel
theorem dX13_cell_15 : decode cX13_cell 15 = .ok (.lconst 0, 1) := by decide +kernel
theorem dX13_cell_16 : decode cX13_cell 16 = .ok (.goto 9, 3) := by decide +kernel
theorem dX13_cell_19 : decode cX13_cell 19 = .ok (.aload_n 0, 1) := by decide +kernel
theorem dX13_cell_20 : decode cX13_cell 20 = .ok (.getfield 83, 3) := by decide +kernel
theorem dX13_cell_23 : decode cX13_cell 23 = .ok (.iload_n 1, 1) := by decide +kernel
theorem dX13_cell_24 : decode cX13_cell 24 = .ok (.laload, 1) := by decide +kernel
theorem dX13_cell_25 : decode cX13_cell 25 = .ok (.lreturn, 1) := by decide +kernel
theorem dX13_clear_0 : decode cX13_clear 0 = .ok (.aload_n 0, 1) := by decide +kernel
theorem dX13_clear_1 : decode cX13_clear 1 = .ok (.iconst 0, 1) := by decide +kernel
theorem dX13_clear_2 : decode cX13_clear 2 = .ok (.putfield 173, 3) := by decide +kernel
theorem dX13_clear_5 : decode cX13_clear 5 = .ok (.aload_n 0, 1) := by decide +kernel
theorem dX13_clear_6 : decode cX13_clear 6 = .ok (.getfield 386, 3) := by decide +kernel
theorem dX13_clear_9 : decode cX13_clear 9 = .ok (.istore_n 1, 1) := by decide +kernel
theorem dX13_clear_10 : decode cX13_clear 10 = .ok (.aload_n 0, 1) := by decide +kernel
theorem dX13_clear_11 : decode cX13_clear 11 = .ok (.iconst 0, 1) := by decide +kernel
theorem dX13_clear_12 : decode cX13_clear 12 = .ok (.putfield 386, 3) := by decide +kernel
theorem dX13_clear_15 : decode cX13_clear 15 = .ok (.aload_n 0, 1) := by decide +kernel
theorem dX13_clear_16 : decode cX13_clear 16 = .ok (.getfield 89, 3) := by decide +kernel
theorem dX13_clear_19 : decode cX13_clear 19 = .ok (.iconst 0, 1) := by decide +kernel
theorem dX13_clear_20 : decode cX13_clear 20 = .ok (.iconst 0, 1) := by decide +kernel
theorem dX13_clear_21 : decode cX13_clear 21 = .ok (.iastore, 1) := by decide +kernel
theorem dX13_clear_22 : decode cX13_clear 22 = .ok (.iconst 0, 1) := by decide +kernel
theorem dX13_clear_23 : decode cX13_clear 23 = .ok (.istore_n 2, 1) := by decide +kernel
theorem dX13_clear_24 : decode cX13_clear 24 = .ok (.iload_n 2, 1) := by decide +kernel
theorem dX13_clear_25 : decode cX13_clear 25 = .ok (.bipush 16, 2) := by decide +kernel
theorem dX13_clear_27 : decode cX13_clear 27 = .ok (.if_icmp .ge 23, 3) := by decide +kernel
theorem dX13_clear_30 : decode cX13_clear 30 = .ok (.aload_n 0, 1) := by decide +kernel
theorem dX13_clear_31 : decode cX13_clear 31 = .ok (.getfield 83, 3) := by decide +kernel
theorem dX13_clear_34 : decode cX13_clear 34 = .ok (.iload_n 2, 1) := by decide +kernel
theorem dX13_clear_35 : decode cX13_clear 35 = .ok (.lconst 0, 1) := by decide +kernel
theorem dX13_clear_36 : decode cX13_clear 36 = .ok (.lastore, 1) := by decide +kernel
theorem dX13_clear_37 : decode cX13_clear 37 = .ok (.aload_n 0, 1) := by decide +kernel
theorem dX13_clear_38 : decode cX13_clear 38 = .ok (.getfield 86, 3) := by decide +kernel
theorem dX13_clear_41 : decode cX13_clear 41 = .ok (.iload_n 2, 1) := by decide +kernel
theorem dX13_clear_42 : decode cX13_clear 42 = .ok (.iconst 0, 1) := by decide +kernel
theorem dX13_clear_43 : decode cX13_clear 43 = .ok (.iastore, 1) := by decide +kernel
theorem dX13_clear_44 : decode cX13_clear 44 = .ok (.iinc 2 1, 3) := by decide +kernel
theorem dX13_clear_47 : decode cX13_clear 47 = .ok (.goto (-23), 3) := by decide +kernel
theorem dX13_clear_50 : decode cX13_clear 50 = .ok (.iconst 0, 1) := by decide +kernel
theorem dX13_clear_51 : decode cX13_clear 51 = .ok (.istore_n 2, 1) := by decide +kernel
theorem dX13_clear_52 : decode cX13_clear 52 = .ok (.iload_n 2, 1) := by decide +kernel
theorem dX13_clear_53 : decode cX13_clear 53 = .ok (.bipush 8, 2) := by decide +kernel
theorem dX13_clear_55 : decode cX13_clear 55 = .ok (.if_icmp .ge 51, 3) := by decide +kernel
theorem dX13_clear_58 : decode cX13_clear 58 = .ok (.aload_n 0, 1) := by decide +kernel
theorem dX13_clear_59 : decode cX13_clear 59 = .ok (.getfield 98, 3) := by decide +kernel
theorem dX13_clear_62 : decode cX13_clear 62 = .ok (.iload_n 2, 1) := by decide +kernel
theorem dX13_clear_63 : decode cX13_clear 63 = .ok (.iconst 0, 1) := by decide +kernel
theorem dX13_clear_64 : decode cX13_clear 64 = .ok (.iastore, 1) := by decide +kernel
theorem dX13_clear_65 : decode cX13_clear 65 = .ok (.aload_n 0, 1) := by decide +kernel
theorem dX13_clear_66 : decode cX13_clear 66 = .ok (.getfield 101, 3) := by decide +kernel
theorem dX13_clear_69 : decode cX13_clear 69 = .ok (.iload_n 2, 1) := by decide +kernel
theorem dX13_clear_70 : decode cX13_clear 70 = .ok (.iconst 0, 1) := by decide +kernel
theorem dX13_clear_71 : decode cX13_clear 71 = .ok (.iastore, 1) := by decide +kernel
theorem dX13_clear_72 : decode cX13_clear 72 = .ok (.aload_n 0, 1) := by decide +kernel
theorem dX13_clear_73 : decode cX13_clear 73 = .ok (.getfield 104, 3) := by decide +kernel
theorem dX13_clear_76 : decode cX13_clear 76 = .ok (.iload_n 2, 1) := by decide +kernel
theorem dX13_clear_77 : decode cX13_clear 77 = .ok (.iconst 0, 1) := by decide +kernel
theorem dX13_clear_78 : decode cX13_clear 78 = .ok (.iastore, 1) := by decide +kernel
theorem dX13_clear_79 : decode cX13_clear 79 = .ok (.aload_n 0, 1) := by decide +kernel
theorem dX13_clear_80 : decode cX13_clear 80 = .ok (.getfield 107, 3) := by decide +kernel
theorem dX13_clear_83 : decode cX13_clear 83 = .ok (.iload_n 2, 1) := by decide +kernel
theorem dX13_clear_84 : decode cX13_clear 84 = .ok (.iconst 0, 1) := by decide +kernel
theorem dX13_clear_85 : decode cX13_clear 85 = .ok (.iastore, 1) := by decide +kernel
theorem dX13_clear_86 : decode cX13_clear 86 = .ok (.aload_n 0, 1) := by decide +kernel
theorem dX13_clear_87 : decode cX13_clear 87 = .ok (.getfield 110, 3) := by decide +kernel
theorem dX13_clear_90 : decode cX13_clear 90 = .ok (.iload_n 2, 1) := by decide +kernel
theorem dX13_clear_91 : decode cX13_clear 91 = .ok (.iconst 0, 1) := by decide +kernel
theorem dX13_clear_92 : decode cX13_clear 92 = .ok (.bastore, 1) := by decide +kernel
theorem dX13_clear_93 : decode cX13_clear 93 = .ok (.aload_n 0, 1) := by decide +kernel
theorem dX13_clear_94 : decode cX13_clear 94 = .ok (.getfield 113, 3) := by decide +kernel
theorem dX13_clear_97 : decode cX13_clear 97 = .ok (.iload_n 2, 1) := by decide +kernel
theorem dX13_clear_98 : decode cX13_clear 98 = .ok (.iconst 0, 1) := by decide +kernel
theorem dX13_clear_99 : decode cX13_clear 99 = .ok (.iastore, 1) := by decide +kernel
theorem dX13_clear_100 : decode cX13_clear 100 = .ok (.iinc 2 1, 3) := by decide +kernel
theorem dX13_clear_103 : decode cX13_clear 103 = .ok (.goto (-51), 3) := by decide +kernel
theorem dX13_clear_106 : decode cX13_clear 106 = .ok (.iload_n 1, 1) := by decide +kernel
theorem dX13_clear_107 : decode cX13_clear 107 = .ok (.ireturn, 1) := by decide +kernel
theorem dX13_client_0 : decode cX13_client 0 = .ok (.aload_n 0, 1) := by decide +kernel
theorem dX13_client_1 : decode cX13_client 1 = .ok (.iconst 0, 1) := by decide +kernel
theorem dX13_client_2 : decode cX13_client 2 = .ok (.putfield 173, 3) := by decide +kernel
theorem dX13_client_5 : decode cX13_client 5 = .ok (.aload_n 0, 1) := by decide +kernel
theorem dX13_client_6 : decode cX13_client 6 = .ok (.iload_n 1, 1) := by decide +kernel
theorem dX13_client_7 : decode cX13_client 7 = .ok (.invokevirtual 431, 3) := by decide +kernel
theorem dX13_client_10 : decode cX13_client 10 = .ok (.ifCond .eq 13, 3) := by decide +kernel
theorem dX13_client_13 : decode cX13_client 13 = .ok (.iload_n 2, 1) := by decide +kernel
theorem dX13_client_14 : decode cX13_client 14 = .ok (.ifCond .lt 9, 3) := by decide +kernel
theorem dX13_client_17 : decode cX13_client 17 = .ok (.iload_n 2, 1) := by decide +kernel
theorem dX13_client_18 : decode cX13_client 18 = .ok (.bipush 8, 2) := by decide +kernel
theorem dX13_client_20 : decode cX13_client 20 = .ok (.if_icmp .le 5, 3) := by decide +kernel
theorem dX13_client_23 : decode cX13_client 23 = .ok (.iconst (-1), 1) := by decide +kernel
theorem dX13_client_24 : decode cX13_client 24 = .ok (.ireturn, 1) := by decide +kernel
theorem dX13_client_25 : decode cX13_client 25 = .ok (.aload_n 0, 1) := by decide +kernel
theorem dX13_client_26 : decode cX13_client 26 = .ok (.getfield 98, 3) := by decide +kernel
theorem dX13_client_29 : decode cX13_client 29 = .ok (.iload_n 1, 1) := by decide +kernel
theorem dX13_client_30 : decode cX13_client 30 = .ok (.iaload, 1) := by decide +kernel
theorem dX13_client_31 : decode cX13_client 31 = .ok (.ifCond .ne 7, 3) := by decide +kernel
theorem dX13_client_34 : decode cX13_client 34 = .ok (.iconst 1, 1) := by decide +kernel
theorem dX13_client_35 : decode cX13_client 35 = .ok (.goto 4, 3) := by decide +kernel
theorem dX13_client_38 : decode cX13_client 38 = .ok (.iconst 0, 1) := by decide +kernel
theorem dX13_client_39 : decode cX13_client 39 = .ok (.istore_n 3, 1) := by decide +kernel
theorem dX13_client_40 : decode cX13_client 40 = .ok (.iload_n 3, 1) := by decide +kernel
theorem dX13_client_41 : decode cX13_client 41 = .ok (.ifCond .ne 17, 3) := by decide +kernel
theorem dX13_client_44 : decode cX13_client 44 = .ok (.aload_n 0, 1) := by decide +kernel
theorem dX13_client_45 : decode cX13_client 45 = .ok (.getfield 101, 3) := by decide +kernel
theorem dX13_client_48 : decode cX13_client 48 = .ok (.iload_n 1, 1) := by decide +kernel
theorem dX13_client_49 : decode cX13_client 49 = .ok (.iaload, 1) := by decide +kernel
theorem dX13_client_50 : decode cX13_client 50 = .ok (.iconst 1, 1) := by decide +kernel
theorem dX13_client_51 : decode cX13_client 51 = .ok (.if_icmp .ne 7, 3) := by decide +kernel
theorem dX13_client_54 : decode cX13_client 54 = .ok (.iconst 1, 1) := by decide +kernel
theorem dX13_client_55 : decode cX13_client 55 = .ok (.goto 4, 3) := by decide +kernel
theorem dX13_client_58 : decode cX13_client 58 = .ok (.iconst 0, 1) := by decide +kernel
theorem dX13_client_59 : decode cX13_client 59 = .ok (.istore 4, 2) := by decide +kernel
theorem dX13_client_61 : decode cX13_client 61 = .ok (.iload_n 2, 1) := by decide +kernel
theorem dX13_client_62 : decode cX13_client 62 = .ok (.tableswitch 120 0 7 #[46, 63, 70, 84, 91, 98, 120, 105], 46) := by decide +kernel
theorem dX13_client_108 : decode cX13_client 108 = .ok (.iload_n 3, 1) := by decide +kernel
theorem dX13_client_109 : decode cX13_client 109 = .ok (.ifCond .eq 7, 3) := by decide +kernel
theorem dX13_client_112 : decode cX13_client 112 = .ok (.iconst 0, 1) := by decide +kernel
theorem dX13_client_113 : decode cX13_client 113 = .ok (.goto 11, 3) := by decide +kernel
theorem dX13_client_116 : decode cX13_client 116 = .ok (.aload_n 0, 1) := by decide +kernel
theorem dX13_client_117 : decode cX13_client 117 = .ok (.getfield 101, 3) := by decide +kernel
theorem dX13_client_120 : decode cX13_client 120 = .ok (.iload_n 1, 1) := by decide +kernel
theorem dX13_client_121 : decode cX13_client 121 = .ok (.iaload, 1) := by decide +kernel
theorem dX13_client_122 : decode cX13_client 122 = .ok (.iconst 1, 1) := by decide +kernel
theorem dX13_client_123 : decode cX13_client 123 = .ok (.iadd, 1) := by decide +kernel
theorem dX13_client_124 : decode cX13_client 124 = .ok (.ireturn, 1) := by decide +kernel
theorem dX13_client_125 : decode cX13_client 125 = .ok (.aload_n 0, 1) := by decide +kernel
theorem dX13_client_126 : decode cX13_client 126 = .ok (.getfield 98, 3) := by decide +kernel
theorem dX13_client_129 : decode cX13_client 129 = .ok (.iload_n 1, 1) := by decide +kernel
theorem dX13_client_130 : decode cX13_client 130 = .ok (.iaload, 1) := by decide +kernel
theorem dX13_client_131 : decode cX13_client 131 = .ok (.ireturn, 1) := by decide +kernel
theorem dX13_client_132 : decode cX13_client 132 = .ok (.iload_n 3, 1) := by decide +kernel
theorem dX13_client_133 : decode cX13_client 133 = .ok (.ifCond .eq 7, 3) := by decide +kernel
theorem dX13_client_136 : decode cX13_client 136 = .ok (.iconst (-1), 1) := by decide +kernel
theorem dX13_client_137 : decode cX13_client 137 = .ok (.goto 8, 3) := by decide +kernel
theorem dX13_client_140 : decode cX13_client 140 = .ok (.aload_n 0, 1) := by decide +kernel
theorem dX13_client_141 : decode cX13_client 141 = .ok (.iload_n 1, 1) := by decide +kernel
theorem dX13_client_142 : decode cX13_client 142 = .ok (.invokevirtual 392, 3) := by decide +kernel
theorem dX13_client_145 : decode cX13_client 145 = .ok (.ireturn, 1) := by decide +kernel
theorem dX13_client_146 : decode cX13_client 146 = .ok (.aload_n 0, 1) := by decide +kernel
theorem dX13_client_147 : decode cX13_client 147 = .ok (.getfield 107, 3) := by decide +kernel
theorem dX13_client_150 : decode cX13_client 150 = .ok (.iload_n 1, 1) := by decide +kernel
theorem dX13_client_151 : decode cX13_client 151 = .ok (.iaload, 1) := by decide +kernel
theorem dX13_client_152 : decode cX13_client 152 = .ok (.ireturn, 1) := by decide +kernel
theorem dX13_client_153 : decode cX13_client 153 = .ok (.aload_n 0, 1) := by decide +kernel
theorem dX13_client_154 : decode cX13_client 154 = .ok (.getfield 104, 3) := by decide +kernel
theorem dX13_client_157 : decode cX13_client 157 = .ok (.iload_n 1, 1) := by decide +kernel
theorem dX13_client_158 : decode cX13_client 158 = .ok (.iaload, 1) := by decide +kernel
theorem dX13_client_159 : decode cX13_client 159 = .ok (.ireturn, 1) := by decide +kernel
theorem dX13_client_160 : decode cX13_client 160 = .ok (.aload_n 0, 1) := by decide +kernel
theorem dX13_client_161 : decode cX13_client 161 = .ok (.getfield 113, 3) := by decide +kernel
theorem dX13_client_164 : decode cX13_client 164 = .ok (.iload_n 1, 1) := by decide +kernel
theorem dX13_client_165 : decode cX13_client 165 = .ok (.iaload, 1) := by decide +kernel
theorem dX13_client_166 : decode cX13_client 166 = .ok (.ireturn, 1) := by decide +kernel
theorem dX13_client_167 : decode cX13_client 167 = .ok (.aload_n 0, 1) := by decide +kernel
theorem dX13_client_168 : decode cX13_client 168 = .ok (.getfield 110, 3) := by decide +kernel
theorem dX13_client_171 : decode cX13_client 171 = .ok (.iload_n 1, 1) := by decide +kernel
theorem dX13_client_172 : decode cX13_client 172 = .ok (.baload, 1) := by decide +kernel
theorem dX13_client_173 : decode cX13_client 173 = .ok (.ifCond .eq 7, 3) := by decide +kernel
theorem dX13_client_176 : decode cX13_client 176 = .ok (.iconst 1, 1) := by decide +kernel
theorem dX13_client_177 : decode cX13_client 177 = .ok (.goto 4, 3) := by decide +kernel
theorem dX13_client_180 : decode cX13_client 180 = .ok (.iconst 0, 1) := by decide +kernel
theorem dX13_client_181 : decode cX13_client 181 = .ok (.ireturn, 1) := by decide +kernel
theorem dX13_client_182 : decode cX13_client 182 = .ok (.iload 4, 2) := by decide +kernel
theorem dX13_client_184 : decode cX13_client 184 = .ok (.ifCond .ne 5, 3) := by decide +kernel
theorem dX13_client_187 : decode cX13_client 187 = .ok (.iconst 0, 1) := by decide +kernel
theorem dX13_client_188 : decode cX13_client 188 = .ok (.ireturn, 1) := by decide +kernel
theorem dX13_client_189 : decode cX13_client 189 = .ok (.aload_n 0, 1) := by decide +kernel
theorem dX13_client_190 : decode cX13_client 190 = .ok (.iload_n 1, 1) := by decide +kernel
theorem dX13_client_191 : decode cX13_client 191 = .ok (.invokevirtual 405, 3) := by decide +kernel
theorem dX13_client_194 : decode cX13_client 194 = .ok (.iload_n 2, 1) := by decide +kernel
theorem dX13_client_195 : decode cX13_client 195 = .ok (.bipush 6, 2) := by decide +kernel
theorem dX13_client_197 : decode cX13_client 197 = .ok (.if_icmp .ne 10, 3) := by decide +kernel
theorem dX13_client_200 : decode cX13_client 200 = .ok (.aload_n 0, 1) := by decide +kernel
theorem dX13_client_201 : decode cX13_client 201 = .ok (.getfield 322, 3) := by decide +kernel
theorem dX13_client_204 : decode cX13_client 204 = .ok (.goto 7, 3) := by decide +kernel
theorem dX13_client_207 : decode cX13_client 207 = .ok (.aload_n 0, 1) := by decide +kernel
theorem dX13_client_208 : decode cX13_client 208 = .ok (.getfield 348, 3) := by decide +kernel
theorem dX13_client_211 : decode cX13_client 211 = .ok (.ireturn, 1) := by decide +kernel
