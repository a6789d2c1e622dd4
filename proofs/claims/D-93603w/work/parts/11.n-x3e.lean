set_option maxRecDepth 100000
theorem dX3_mend_142 : decode cX3_mend 142 = .ok (.iload 4, 2) := by decide +kernel
theorem dX3_mend_144 : decode cX3_mend 144 = .ok (.ifCond .ne 11, 3) := by decide +kernel
theorem dX3_mend_147 : decode cX3_mend 147 = .ok (.iload 7, 2) := by decide +kernel
theorem dX3_mend_149 : decode cX3_mend 149 = .ok (.iload 5, 2) := by decide +kernel
theorem dX3_mend_151 : decode cX3_mend 151 = .ok (.imul, 1) := by decide +kernel
theorem dX3_mend_152 : decode cX3_mend 152 = .ok (.goto 5, 3) := by decide +kernel
theorem dX3_mend_155 : decode cX3_mend 155 = .ok (.iload 6, 2) := by decide +kernel
theorem dX3_mend_157 : decode cX3_mend 157 = .ok (.ireturn, 1) := by decide +kernel
theorem dX3_mend_158 : decode cX3_mend 158 = .ok (.iinc 7 2, 3) := by decide +kernel
theorem dX3_mend_161 : decode cX3_mend 161 = .ok (.goto (-65), 3) := by decide +kernel
theorem dX3_mend_164 : decode cX3_mend 164 = .ok (.iinc 6 1, 3) := by decide +kernel
theorem dX3_mend_167 : decode cX3_mend 167 = .ok (.goto (-85), 3) := by decide +kernel
theorem dX3_mend_170 : decode cX3_mend 170 = .ok (.iinc 5 1, 3) := by decide +kernel
theorem dX3_mend_173 : decode cX3_mend 173 = .ok (.goto (-100), 3) := by decide +kernel
theorem dX3_mend_176 : decode cX3_mend 176 = .ok (.bipush (-100), 2) := by decide +kernel
theorem dX3_mend_178 : decode cX3_mend 178 = .ok (.ireturn, 1) := by decide +kernel
abbrev cX3_pointsBehind : ByteArray := prog_22_method_74_code
def yX3_pointsBehind : MethodName := ⟨RX3, "pointsBehind", "(IIII)I"⟩
theorem dX3_pointsBehind_0 : decode cX3_pointsBehind 0 = .ok (.iconst 0, 1) := by decide +kernel
theorem dX3_pointsBehind_1 : decode cX3_pointsBehind 1 = .ok (.istore 5, 2) := by decide +kernel
theorem dX3_pointsBehind_3 : decode cX3_pointsBehind 3 = .ok (.iload 5, 2) := by decide +kernel
theorem dX3_pointsBehind_5 : decode cX3_pointsBehind 5 = .ok (.sipush 240, 3) := by decide +kernel
theorem dX3_pointsBehind_8 : decode cX3_pointsBehind 8 = .ok (.if_icmp .ge 23, 3) := by decide +kernel
theorem dX3_pointsBehind_11 : decode cX3_pointsBehind 11 = .ok (.aload_n 0, 1) := by decide +kernel
theorem dX3_pointsBehind_12 : decode cX3_pointsBehind 12 = .ok (.getfield 16, 3) := by decide +kernel
theorem dX3_pointsBehind_15 : decode cX3_pointsBehind 15 = .ok (.iload 5, 2) := by decide +kernel
theorem dX3_pointsBehind_17 : decode cX3_pointsBehind 17 = .ok (.aload_n 0, 1) := by decide +kernel
theorem dX3_pointsBehind_18 : decode cX3_pointsBehind 18 = .ok (.getfield 7, 3) := by decide +kernel
theorem dX3_pointsBehind_21 : decode cX3_pointsBehind 21 = .ok (.iload 5, 2) := by decide +kernel
theorem dX3_pointsBehind_23 : decode cX3_pointsBehind 23 = .ok (.iaload, 1) := by decide +kernel
theorem dX3_pointsBehind_24 : decode cX3_pointsBehind 24 = .ok (.iastore, 1) := by decide +kernel
theorem dX3_pointsBehind_25 : decode cX3_pointsBehind 25 = .ok (.iinc 5 1, 3) := by decide +kernel
theorem dX3_pointsBehind_28 : decode cX3_pointsBehind 28 = .ok (.goto (-25), 3) := by decide +kernel
theorem dX3_pointsBehind_31 : decode cX3_pointsBehind 31 = .ok (.aload_n 0, 1) := by decide +kernel
theorem dX3_pointsBehind_32 : decode cX3_pointsBehind 32 = .ok (.iload_n 1, 1) := by decide +kernel
theorem dX3_pointsBehind_33 : decode cX3_pointsBehind 33 = .ok (.putfield 48, 3) := by decide +kernel
theorem dX3_pointsBehind_36 : decode cX3_pointsBehind 36 = .ok (.aload_n 0, 1) := by decide +kernel
theorem dX3_pointsBehind_37 : decode cX3_pointsBehind 37 = .ok (.iload_n 2, 1) := by decide +kernel
theorem dX3_pointsBehind_38 : decode cX3_pointsBehind 38 = .ok (.putfield 44, 3) := by decide +kernel
theorem dX3_pointsBehind_41 : decode cX3_pointsBehind 41 = .ok (.aload_n 0, 1) := by decide +kernel
theorem dX3_pointsBehind_42 : decode cX3_pointsBehind 42 = .ok (.iload_n 3, 1) := by decide +kernel
theorem dX3_pointsBehind_43 : decode cX3_pointsBehind 43 = .ok (.putfield 189, 3) := by decide +kernel
theorem dX3_pointsBehind_46 : decode cX3_pointsBehind 46 = .ok (.iconst 0, 1) := by decide +kernel
theorem dX3_pointsBehind_47 : decode cX3_pointsBehind 47 = .ok (.istore 5, 2) := by decide +kernel
theorem dX3_pointsBehind_49 : decode cX3_pointsBehind 49 = .ok (.iload 5, 2) := by decide +kernel
theorem dX3_pointsBehind_51 : decode cX3_pointsBehind 51 = .ok (.iload 4, 2) := by decide +kernel
theorem dX3_pointsBehind_53 : decode cX3_pointsBehind 53 = .ok (.if_icmp .ge 13, 3) := by decide +kernel
theorem dX3_pointsBehind_56 : decode cX3_pointsBehind 56 = .ok (.aload_n 0, 1) := by decide +kernel
theorem dX3_pointsBehind_57 : decode cX3_pointsBehind 57 = .ok (.invokevirtual 230, 3) := by decide +kernel
theorem dX3_pointsBehind_60 : decode cX3_pointsBehind 60 = .ok (.iinc 5 1, 3) := by decide +kernel
theorem dX3_pointsBehind_63 : decode cX3_pointsBehind 63 = .ok (.goto (-14), 3) := by decide +kernel
theorem dX3_pointsBehind_66 : decode cX3_pointsBehind 66 = .ok (.aload_n 0, 1) := by decide +kernel
theorem dX3_pointsBehind_67 : decode cX3_pointsBehind 67 = .ok (.iconst (-1), 1) := by decide +kernel
theorem dX3_pointsBehind_68 : decode cX3_pointsBehind 68 = .ok (.putfield 48, 3) := by decide +kernel
theorem dX3_pointsBehind_71 : decode cX3_pointsBehind 71 = .ok (.aload_n 0, 1) := by decide +kernel
theorem dX3_pointsBehind_72 : decode cX3_pointsBehind 72 = .ok (.invokevirtual 283, 3) := by decide +kernel
theorem dX3_pointsBehind_75 : decode cX3_pointsBehind 75 = .ok (.istore 5, 2) := by decide +kernel
theorem dX3_pointsBehind_77 : decode cX3_pointsBehind 77 = .ok (.iconst 0, 1) := by decide +kernel
theorem dX3_pointsBehind_78 : decode cX3_pointsBehind 78 = .ok (.istore 6, 2) := by decide +kernel
theorem dX3_pointsBehind_80 : decode cX3_pointsBehind 80 = .ok (.iload 6, 2) := by decide +kernel
theorem dX3_pointsBehind_82 : decode cX3_pointsBehind 82 = .ok (.sipush 240, 3) := by decide +kernel
theorem dX3_pointsBehind_85 : decode cX3_pointsBehind 85 = .ok (.if_icmp .ge 23, 3) := by decide +kernel
theorem dX3_pointsBehind_88 : decode cX3_pointsBehind 88 = .ok (.aload_n 0, 1) := by decide +kernel
theorem dX3_pointsBehind_89 : decode cX3_pointsBehind 89 = .ok (.getfield 7, 3) := by decide +kernel
theorem dX3_pointsBehind_92 : decode cX3_pointsBehind 92 = .ok (.iload 6, 2) := by decide +kernel
theorem dX3_pointsBehind_94 : decode cX3_pointsBehind 94 = .ok (.aload_n 0, 1) := by decide +kernel
theorem dX3_pointsBehind_95 : decode cX3_pointsBehind 95 = .ok (.getfield 16, 3) := by decide +kernel
theorem dX3_pointsBehind_98 : decode cX3_pointsBehind 98 = .ok (.iload 6, 2) := by decide +kernel
theorem dX3_pointsBehind_100 : decode cX3_pointsBehind 100 = .ok (.iaload, 1) := by decide +kernel
theorem dX3_pointsBehind_101 : decode cX3_pointsBehind 101 = .ok (.iastore, 1) := by decide +kernel
theorem dX3_pointsBehind_102 : decode cX3_pointsBehind 102 = .ok (.iinc 6 1, 3) := by decide +kernel
theorem dX3_pointsBehind_105 : decode cX3_pointsBehind 105 = .ok (.goto (-25), 3) := by decide +kernel
theorem dX3_pointsBehind_108 : decode cX3_pointsBehind 108 = .ok (.iload 5, 2) := by decide +kernel
theorem dX3_pointsBehind_110 : decode cX3_pointsBehind 110 = .ok (.ireturn, 1) := by decide +kernel
abbrev cX3_numberOf : ByteArray := prog_22_method_75_code
def yX3_numberOf : MethodName := ⟨RX3, "numberOf", "(II)I"⟩
theorem dX3_numberOf_0 : decode cX3_numberOf 0 = .ok (.iconst 0, 1) := by decide +kernel
theorem dX3_numberOf_1 : decode cX3_numberOf 1 = .ok (.istore_n 3, 1) := by decide +kernel
theorem dX3_numberOf_2 : decode cX3_numberOf 2 = .ok (.sipush 140, 3) := by decide +kernel
theorem dX3_numberOf_5 : decode cX3_numberOf 5 = .ok (.iload_n 1, 1) := by decide +kernel
theorem dX3_numberOf_6 : decode cX3_numberOf 6 = .ok (.imul, 1) := by decide +kernel
theorem dX3_numberOf_7 : decode cX3_numberOf 7 = .ok (.istore 4, 2) := by decide +kernel
theorem dX3_numberOf_9 : decode cX3_numberOf 9 = .ok (.iload 4, 2) := by decide +kernel
theorem dX3_numberOf_11 : decode cX3_numberOf 11 = .ok (.sipush 140, 3) := by decide +kernel
theorem dX3_numberOf_14 : decode cX3_numberOf 14 = .ok (.iload_n 1, 1) := by decide +kernel
theorem dX3_numberOf_15 : decode cX3_numberOf 15 = .ok (.imul, 1) := by decide +kernel
theorem dX3_numberOf_16 : decode cX3_numberOf 16 = .ok (.aload_n 0, 1) := by decide +kernel
theorem dX3_numberOf_17 : decode cX3_numberOf 17 = .ok (.getfield 37, 3) := by decide +kernel
theorem dX3_numberOf_20 : decode cX3_numberOf 20 = .ok (.iload_n 1, 1) := by decide +kernel
theorem dX3_numberOf_21 : decode cX3_numberOf 21 = .ok (.iaload, 1) := by decide +kernel
theorem dX3_numberOf_22 : decode cX3_numberOf 22 = .ok (.iadd, 1) := by decide +kernel
theorem dX3_numberOf_23 : decode cX3_numberOf 23 = .ok (.if_icmp .ge 38, 3) := by decide +kernel
theorem dX3_numberOf_26 : decode cX3_numberOf 26 = .ok (.aload_n 0, 1) := by decide +kernel
theorem dX3_numberOf_27 : decode cX3_numberOf 27 = .ok (.getfield 34, 3) := by decide +kernel
theorem dX3_numberOf_30 : decode cX3_numberOf 30 = .ok (.iload 4, 2) := by decide +kernel
theorem dX3_numberOf_32 : decode cX3_numberOf 32 = .ok (.iaload, 1) := by decide +kernel
theorem dX3_numberOf_33 : decode cX3_numberOf 33 = .ok (.ifCond .lt 22, 3) := by decide +kernel
theorem dX3_numberOf_36 : decode cX3_numberOf 36 = .ok (.iload_n 3, 1) := by decide +kernel
theorem dX3_numberOf_37 : decode cX3_numberOf 37 = .ok (.iload_n 2, 1) := by decide +kernel
theorem dX3_numberOf_38 : decode cX3_numberOf 38 = .ok (.if_icmp .ne 14, 3) := by decide +kernel
theorem dX3_numberOf_41 : decode cX3_numberOf 41 = .ok (.aload_n 0, 1) := by decide +kernel
theorem dX3_numberOf_42 : decode cX3_numberOf 42 = .ok (.getfield 34, 3) := by decide +kernel
theorem dX3_numberOf_45 : decode cX3_numberOf 45 = .ok (.iload 4, 2) := by decide +kernel
theorem dX3_numberOf_47 : decode cX3_numberOf 47 = .ok (.iaload, 1) := by decide +kernel
theorem dX3_numberOf_48 : decode cX3_numberOf 48 = .ok (.bipush 32, 2) := by decide +kernel
theorem dX3_numberOf_50 : decode cX3_numberOf 50 = .ok (.idiv, 1) := by decide +kernel
theorem dX3_numberOf_51 : decode cX3_numberOf 51 = .ok (.ireturn, 1) := by decide +kernel
theorem dX3_numberOf_52 : decode cX3_numberOf 52 = .ok (.iinc 3 1, 3) := by decide +kernel
theorem dX3_numberOf_55 : decode cX3_numberOf 55 = .ok (.iinc 4 1, 3) := by decide +kernel
theorem dX3_numberOf_58 : decode cX3_numberOf 58 = .ok (.goto (-49), 3) := by decide +kernel
theorem dX3_numberOf_61 : decode cX3_numberOf 61 = .ok (.iconst (-1), 1) := by decide +kernel
theorem dX3_numberOf_62 : decode cX3_numberOf 62 = .ok (.ireturn, 1) := by decide +kernel
abbrev cX3_act : ByteArray := prog_22_method_86_code
def yX3_act : MethodName := ⟨RX3, "act", "(III)I"⟩
theorem dX3_act_0 : decode cX3_act 0 = .ok (.aload_n 0, 1) := by decide +kernel
theorem dX3_act_1 : decode cX3_act 1 = .ok (.iconst 0, 1) := by decide +kernel
theorem dX3_act_2 : decode cX3_act 2 = .ok (.putfield 292, 3) := by decide +kernel
theorem dX3_act_5 : decode cX3_act 5 = .ok (.aload_n 0, 1) := by decide +kernel
theorem dX3_act_6 : decode cX3_act 6 = .ok (.iload_n 1, 1) := by decide +kernel
theorem dX3_act_7 : decode cX3_act 7 = .ok (.invokevirtual 98, 3) := by decide +kernel
theorem dX3_act_10 : decode cX3_act 10 = .ok (.ifCond .eq 12, 3) := by decide +kernel
theorem dX3_act_13 : decode cX3_act 13 = .ok (.iload_n 2, 1) := by decide +kernel
theorem dX3_act_14 : decode cX3_act 14 = .ok (.iconst 0, 1) := by decide +kernel
theorem dX3_act_15 : decode cX3_act 15 = .ok (.iconst 2, 1) := by decide +kernel
theorem dX3_act_16 : decode cX3_act 16 = .ok (.invokestatic 69, 3) := by decide +kernel
theorem dX3_act_19 : decode cX3_act 19 = .ok (.ifCond .ne 5, 3) := by decide +kernel
theorem dX3_act_22 : decode cX3_act 22 = .ok (.iconst 0, 1) := by decide +kernel
theorem dX3_act_23 : decode cX3_act 23 = .ok (.ireturn, 1) := by decide +kernel
theorem dX3_act_24 : decode cX3_act 24 = .ok (.aload_n 0, 1) := by decide +kernel
theorem dX3_act_25 : decode cX3_act 25 = .ok (.aload_n 0, 1) := by decide +kernel
theorem dX3_act_26 : decode cX3_act 26 = .ok (.iload_n 1, 1) := by decide +kernel
theorem dX3_act_27 : decode cX3_act 27 = .ok (.invokevirtual 111, 3) := by decide +kernel
theorem dX3_act_30 : decode cX3_act 30 = .ok (.putfield 301, 3) := by decide +kernel
theorem dX3_act_33 : decode cX3_act 33 = .ok (.aload_n 0, 1) := by decide +kernel
theorem dX3_act_34 : decode cX3_act 34 = .ok (.iload_n 1, 1) := by decide +kernel
theorem dX3_act_35 : decode cX3_act 35 = .ok (.putfield 298, 3) := by decide +kernel
theorem dX3_act_38 : decode cX3_act 38 = .ok (.aload_n 0, 1) := by decide +kernel
theorem dX3_act_39 : decode cX3_act 39 = .ok (.aload_n 0, 1) := by decide +kernel
theorem dX3_act_40 : decode cX3_act 40 = .ok (.getfield 7, 3) := by decide +kernel
theorem dX3_act_43 : decode cX3_act 43 = .ok (.sipush 130, 3) := by decide +kernel
theorem dX3_act_46 : decode cX3_act 46 = .ok (.iload_n 1, 1) := by decide +kernel
theorem dX3_act_47 : decode cX3_act 47 = .ok (.iadd, 1) := by decide +kernel
theorem dX3_act_48 : decode cX3_act 48 = .ok (.iaload, 1) := by decide +kernel
theorem dX3_act_49 : decode cX3_act 49 = .ok (.putfield 313, 3) := by decide +kernel
theorem dX3_act_52 : decode cX3_act 52 = .ok (.iload_n 2, 1) := by decide +kernel
theorem dX3_act_53 : decode cX3_act 53 = .ok (.ifCond .ne 11, 3) := by decide +kernel
theorem dX3_act_56 : decode cX3_act 56 = .ok (.aload_n 0, 1) := by decide +kernel
theorem dX3_act_57 : decode cX3_act 57 = .ok (.iload_n 3, 1) := by decide +kernel
theorem dX3_act_58 : decode cX3_act 58 = .ok (.invokevirtual 310, 3) := by decide +kernel
theorem dX3_act_61 : decode cX3_act 61 = .ok (.goto 21, 3) := by decide +kernel
theorem dX3_act_64 : decode cX3_act 64 = .ok (.iload_n 2, 1) := by decide +kernel
theorem dX3_act_65 : decode cX3_act 65 = .ok (.iconst 1, 1) := by decide +kernel
theorem dX3_act_66 : decode cX3_act 66 = .ok (.if_icmp .ne 11, 3) := by decide +kernel
theorem dX3_act_69 : decode cX3_act 69 = .ok (.aload_n 0, 1) := by decide +kernel
theorem dX3_act_70 : decode cX3_act 70 = .ok (.iload_n 3, 1) := by decide +kernel
theorem dX3_act_71 : decode cX3_act 71 = .ok (.invokevirtual 322, 3) := by decide +kernel
theorem dX3_act_74 : decode cX3_act 74 = .ok (.goto 8, 3) := by decide +kernel
theorem dX3_act_77 : decode cX3_act 77 = .ok (.aload_n 0, 1) := by decide +kernel
theorem dX3_act_78 : decode cX3_act 78 = .ok (.iload_n 3, 1) := by decide +kernel
theorem dX3_act_79 : decode cX3_act 79 = .ok (.invokevirtual 328, 3) := by decide +kernel
theorem dX3_act_82 : decode cX3_act 82 = .ok (.ireturn, 1) := by decide +kernel
abbrev cX3_fits : ByteArray := prog_22_method_80_code
def yX3_fits : MethodName := ⟨RX3, "fits", "(I)I"⟩
theorem dX3_fits_0 : decode cX3_fits 0 = .ok (.aload_n 0, 1) := by decide +kernel
theorem dX3_fits_1 : decode cX3_fits 1 = .ok (.getfield 301, 3) := by decide +kernel
theorem dX3_fits_4 : decode cX3_fits 4 = .ok (.bipush 6, 2) := by decide +kernel
theorem dX3_fits_6 : decode cX3_fits 6 = .ok (.if_icmp .ne 16, 3) := by decide +kernel
theorem dX3_fits_9 : decode cX3_fits 9 = .ok (.aload_n 0, 1) := by decide +kernel
theorem dX3_fits_10 : decode cX3_fits 10 = .ok (.bipush 61, 2) := by decide +kernel
theorem dX3_fits_12 : decode cX3_fits 12 = .ok (.invokevirtual 295, 3) := by decide +kernel
theorem dX3_fits_15 : decode cX3_fits 15 = .ok (.aload_n 0, 1) := by decide +kernel
theorem dX3_fits_16 : decode cX3_fits 16 = .ok (.iload_n 1, 1) := by decide +kernel
theorem dX3_fits_17 : decode cX3_fits 17 = .ok (.invokevirtual 304, 3) := by decide +kernel
theorem dX3_fits_20 : decode cX3_fits 20 = .ok (.ineg, 1) := by decide +kernel
theorem dX3_fits_21 : decode cX3_fits 21 = .ok (.ireturn, 1) := by decide +kernel
theorem dX3_fits_22 : decode cX3_fits 22 = .ok (.aload_n 0, 1) := by decide +kernel
theorem dX3_fits_23 : decode cX3_fits 23 = .ok (.getfield 301, 3) := by decide +kernel
theorem dX3_fits_26 : decode cX3_fits 26 = .ok (.iconst 1, 1) := by decide +kernel
theorem dX3_fits_27 : decode cX3_fits 27 = .ok (.invokestatic 307, 3) := by decide +kernel
theorem dX3_fits_30 : decode cX3_fits 30 = .ok (.ifCond .eq 17, 3) := by decide +kernel
theorem dX3_fits_33 : decode cX3_fits 33 = .ok (.aload_n 0, 1) := by decide +kernel
theorem dX3_fits_34 : decode cX3_fits 34 = .ok (.bipush 11, 2) := by decide +kernel
theorem dX3_fits_36 : decode cX3_fits 36 = .ok (.invokevirtual 295, 3) := by decide +kernel
theorem dX3_fits_39 : decode cX3_fits 39 = .ok (.aload_n 0, 1) := by decide +kernel
theorem dX3_fits_40 : decode cX3_fits 40 = .ok (.iload_n 1, 1) := by decide +kernel
theorem dX3_fits_41 : decode cX3_fits 41 = .ok (.iconst 2, 1) := by decide +kernel
theorem dX3_fits_42 : decode cX3_fits 42 = .ok (.imul, 1) := by decide +kernel
theorem dX3_fits_43 : decode cX3_fits 43 = .ok (.invokevirtual 304, 3) := by decide +kernel
theorem dX3_fits_46 : decode cX3_fits 46 = .ok (.ireturn, 1) := by decide +kernel
theorem dX3_fits_47 : decode cX3_fits 47 = .ok (.aload_n 0, 1) := by decide +kernel
theorem dX3_fits_48 : decode cX3_fits 48 = .ok (.iload_n 1, 1) := by decide +kernel
theorem dX3_fits_49 : decode cX3_fits 49 = .ok (.invokevirtual 304, 3) := by decide +kernel
theorem dX3_fits_52 : decode cX3_fits 52 = .ok (.ireturn, 1) := by decide +kernel
abbrev cX3_runs : ByteArray := prog_22_method_77_code
def yX3_runs : MethodName := ⟨RX3, "runs", "(I)V"⟩
theorem dX3_runs_0 : decode cX3_runs 0 = .ok (.aload_n 0, 1) := by decide +kernel
theorem dX3_runs_1 : decode cX3_runs 1 = .ok (.getfield 292, 3) := by decide +kernel
theorem dX3_runs_4 : decode cX3_runs 4 = .ok (.bipush 20, 2) := by decide +kernel
theorem dX3_runs_6 : decode cX3_runs 6 = .ok (.if_icmp .ge 13, 3) := by decide +kernel
theorem dX3_runs_9 : decode cX3_runs 9 = .ok (.aload_n 0, 1) := by decide +kernel
theorem dX3_runs_10 : decode cX3_runs 10 = .ok (.getfield 63, 3) := by decide +kernel
theorem dX3_runs_13 : decode cX3_runs 13 = .ok (.aload_n 0, 1) := by decide +kernel
theorem dX3_runs_14 : decode cX3_runs 14 = .ok (.getfield 292, 3) := by decide +kernel
theorem dX3_runs_17 : decode cX3_runs 17 = .ok (.iload_n 1, 1) := by decide +kernel
theorem dX3_runs_18 : decode cX3_runs 18 = .ok (.iastore, 1) := by decide +kernel
theorem dX3_runs_19 : decode cX3_runs 19 = .ok (.aload_n 0, 1) := by decide +kernel
theorem dX3_runs_20 : decode cX3_runs 20 = .ok (.dup, 1) := by decide +kernel
theorem dX3_runs_21 : decode cX3_runs 21 = .ok (.getfield 292, 3) := by decide +kernel
theorem dX3_runs_24 : decode cX3_runs 24 = .ok (.iconst 1, 1) := by decide +kernel
theorem dX3_runs_25 : decode cX3_runs 25 = .ok (.iadd, 1) := by decide +kernel
theorem dX3_runs_26 : decode cX3_runs 26 = .ok (.putfield 292, 3) := by decide +kernel
theorem dX3_runs_29 : decode cX3_runs 29 = .ok (.return_, 1) := by decide +kernel
abbrev cX3_plainFits : ByteArray := prog_22_method_79_code
def yX3_plainFits : MethodName := ⟨RX3, "plainFits", "(I)I"⟩
theorem dX3_plainFits_0 : decode cX3_plainFits 0 = .ok (.aload_n 0, 1) := by decide +kernel
theorem dX3_plainFits_1 : decode cX3_plainFits 1 = .ok (.iconst 1, 1) := by decide +kernel
theorem dX3_plainFits_2 : decode cX3_plainFits 2 = .ok (.invokevirtual 295, 3) := by decide +kernel
theorem dX3_plainFits_5 : decode cX3_plainFits 5 = .ok (.iload_n 1, 1) := by decide +kernel
theorem dX3_plainFits_6 : decode cX3_plainFits 6 = .ok (.aload_n 0, 1) := by decide +kernel
theorem dX3_plainFits_7 : decode cX3_plainFits 7 = .ok (.getfield 298, 3) := by decide +kernel
theorem dX3_plainFits_10 : decode cX3_plainFits 10 = .ok (.iadd, 1) := by decide +kernel
theorem dX3_plainFits_11 : decode cX3_plainFits 11 = .ok (.ireturn, 1) := by decide +kernel
abbrev cX3_isUnder : ByteArray := prog_22_method_78_code
def yX3_isUnder : MethodName := ⟨RX3, "isUnder", "(II)Z"⟩
theorem dX3_isUnder_0 : decode cX3_isUnder 0 = .ok (.iload_n 1, 1) := by decide +kernel
theorem dX3_isUnder_1 : decode cX3_isUnder 1 = .ok (.ifCond .eq 34, 3) := by decide +kernel
theorem dX3_isUnder_4 : decode cX3_isUnder 4 = .ok (.iload_n 1, 1) := by decide +kernel
theorem dX3_isUnder_5 : decode cX3_isUnder 5 = .ok (.iload_n 0, 1) := by decide +kernel
theorem dX3_isUnder_6 : decode cX3_isUnder 6 = .ok (.if_icmp .eq 29, 3) := by decide +kernel
theorem dX3_isUnder_9 : decode cX3_isUnder 9 = .ok (.iload_n 1, 1) := by decide +kernel
theorem dX3_isUnder_10 : decode cX3_isUnder 10 = .ok (.iconst 1, 1) := by decide +kernel
theorem dX3_isUnder_11 : decode cX3_isUnder 11 = .ok (.if_icmp .ne 14, 3) := by decide +kernel
theorem dX3_isUnder_14 : decode cX3_isUnder 14 = .ok (.iload_n 0, 1) := by decide +kernel
theorem dX3_isUnder_15 : decode cX3_isUnder 15 = .ok (.iconst 2, 1) := by decide +kernel
theorem dX3_isUnder_16 : decode cX3_isUnder 16 = .ok (.if_icmp .le 9, 3) := by decide +kernel
theorem dX3_isUnder_19 : decode cX3_isUnder 19 = .ok (.iload_n 0, 1) := by decide +kernel
theorem dX3_isUnder_20 : decode cX3_isUnder 20 = .ok (.bipush 6, 2) := by decide +kernel
theorem dX3_isUnder_22 : decode cX3_isUnder 22 = .ok (.if_icmp .lt 13, 3) := by decide +kernel
theorem dX3_isUnder_25 : decode cX3_isUnder 25 = .ok (.iload_n 1, 1) := by decide +kernel
theorem dX3_isUnder_26 : decode cX3_isUnder 26 = .ok (.iconst 3, 1) := by decide +kernel
theorem dX3_isUnder_27 : decode cX3_isUnder 27 = .ok (.if_icmp .ne 12, 3) := by decide +kernel
theorem dX3_isUnder_30 : decode cX3_isUnder 30 = .ok (.iload_n 0, 1) := by decide +kernel
theorem dX3_isUnder_31 : decode cX3_isUnder 31 = .ok (.iconst 4, 1) := by decide +kernel
theorem dX3_isUnder_32 : decode cX3_isUnder 32 = .ok (.if_icmp .ne 7, 3) := by decide +kernel
theorem dX3_isUnder_35 : decode cX3_isUnder 35 = .ok (.iconst 1, 1) := by decide +kernel
theorem dX3_isUnder_36 : decode cX3_isUnder 36 = .ok (.goto 4, 3) := by decide +kernel
theorem dX3_isUnder_39 : decode cX3_isUnder 39 = .ok (.iconst 0, 1) := by decide +kernel
theorem dX3_isUnder_40 : decode cX3_isUnder 40 = .ok (.ireturn, 1) := by decide +kernel
abbrev cX3_askedActs : ByteArray := prog_22_method_83_code
def yX3_askedActs : MethodName := ⟨RX3, "askedActs", "(I)I"⟩
theorem dX3_askedActs_0 : decode cX3_askedActs 0 = .ok (.aload_n 0, 1) := by decide +kernel
theorem dX3_askedActs_1 : decode cX3_askedActs 1 = .ok (.getfield 301, 3) := by decide +kernel
theorem dX3_askedActs_4 : decode cX3_askedActs 4 = .ok (.iconst 4, 1) := by decide +kernel
theorem dX3_askedActs_5 : decode cX3_askedActs 5 = .ok (.if_icmp .ne 25, 3) := by decide +kernel
theorem dX3_askedActs_8 : decode cX3_askedActs 8 = .ok (.aload_n 0, 1) := by decide +kernel
theorem dX3_askedActs_9 : decode cX3_askedActs 9 = .ok (.bipush 41, 2) := by decide +kernel
theorem dX3_askedActs_11 : decode cX3_askedActs 11 = .ok (.invokevirtual 295, 3) := by decide +kernel
theorem dX3_askedActs_14 : decode cX3_askedActs 14 = .ok (.aload_n 0, 1) := by decide +kernel
theorem dX3_askedActs_15 : decode cX3_askedActs 15 = .ok (.iload_n 1, 1) := by decide +kernel
theorem dX3_askedActs_16 : decode cX3_askedActs 16 = .ok (.iconst 1, 1) := by decide +kernel
theorem dX3_askedActs_17 : decode cX3_askedActs 17 = .ok (.iadd, 1) := by decide +kernel
theorem dX3_askedActs_18 : decode cX3_askedActs 18 = .ok (.invokevirtual 319, 3) := by decide +kernel
theorem dX3_askedActs_21 : decode cX3_askedActs 21 = .ok (.istore_n 2, 1) := by decide +kernel
theorem dX3_askedActs_22 : decode cX3_askedActs 22 = .ok (.iload_n 2, 1) := by decide +kernel
theorem dX3_askedActs_23 : decode cX3_askedActs 23 = .ok (.aload_n 0, 1) := by decide +kernel
theorem dX3_askedActs_24 : decode cX3_askedActs 24 = .ok (.iconst 1, 1) := by decide +kernel
theorem dX3_askedActs_25 : decode cX3_askedActs 25 = .ok (.invokevirtual 310, 3) := by decide +kernel
theorem dX3_askedActs_28 : decode cX3_askedActs 28 = .ok (.iadd, 1) := by decide +kernel
theorem dX3_askedActs_29 : decode cX3_askedActs 29 = .ok (.ireturn, 1) := by decide +kernel
theorem dX3_askedActs_30 : decode cX3_askedActs 30 = .ok (.aload_n 0, 1) := by decide +kernel
theorem dX3_askedActs_31 : decode cX3_askedActs 31 = .ok (.getfield 301, 3) := by decide +kernel
theorem dX3_askedActs_34 : decode cX3_askedActs 34 = .ok (.iconst 3, 1) := by decide +kernel
theorem dX3_askedActs_35 : decode cX3_askedActs 35 = .ok (.if_icmp .ne 11, 3) := by decide +kernel
theorem dX3_askedActs_38 : decode cX3_askedActs 38 = .ok (.aload_n 0, 1) := by decide +kernel
theorem dX3_askedActs_39 : decode cX3_askedActs 39 = .ok (.iload_n 1, 1) := by decide +kernel
theorem dX3_askedActs_40 : decode cX3_askedActs 40 = .ok (.invokevirtual 319, 3) := by decide +kernel
theorem dX3_askedActs_43 : decode cX3_askedActs 43 = .ok (.goto 8, 3) := by decide +kernel
theorem dX3_askedActs_46 : decode cX3_askedActs 46 = .ok (.aload_n 0, 1) := by decide +kernel
theorem dX3_askedActs_47 : decode cX3_askedActs 47 = .ok (.iload_n 1, 1) := by decide +kernel
theorem dX3_askedActs_48 : decode cX3_askedActs 48 = .ok (.invokevirtual 316, 3) := by decide +kernel
theorem dX3_askedActs_51 : decode cX3_askedActs 51 = .ok (.ireturn, 1) := by decide +kernel
abbrev cX3_waitingAsks : ByteArray := prog_22_method_82_code
def yX3_waitingAsks : MethodName := ⟨RX3, "waitingAsks", "(I)I"⟩
theorem dX3_waitingAsks_0 : decode cX3_waitingAsks 0 = .ok (.aload_n 0, 1) := by decide +kernel
theorem dX3_waitingAsks_1 : decode cX3_waitingAsks 1 = .ok (.bipush 31, 2) := by decide +kernel
theorem dX3_waitingAsks_3 : decode cX3_waitingAsks 3 = .ok (.invokevirtual 295, 3) := by decide +kernel
theorem dX3_waitingAsks_6 : decode cX3_waitingAsks 6 = .ok (.aload_n 0, 1) := by decide +kernel
theorem dX3_waitingAsks_7 : decode cX3_waitingAsks 7 = .ok (.iload_n 1, 1) := by decide +kernel
theorem dX3_waitingAsks_8 : decode cX3_waitingAsks 8 = .ok (.invokevirtual 316, 3) := by decide +kernel
theorem dX3_waitingAsks_11 : decode cX3_waitingAsks 11 = .ok (.iconst 3, 1) := by decide +kernel
theorem dX3_waitingAsks_12 : decode cX3_waitingAsks 12 = .ok (.ixor, 1) := by decide +kernel
theorem dX3_waitingAsks_13 : decode cX3_waitingAsks 13 = .ok (.ireturn, 1) := by decide +kernel
abbrev cX3_plainAsks : ByteArray := prog_22_method_81_code
def yX3_plainAsks : MethodName := ⟨RX3, "plainAsks", "(I)I"⟩
theorem dX3_plainAsks_0 : decode cX3_plainAsks 0 = .ok (.aload_n 0, 1) := by decide +kernel
theorem dX3_plainAsks_1 : decode cX3_plainAsks 1 = .ok (.iconst 2, 1) := by decide +kernel
theorem dX3_plainAsks_2 : decode cX3_plainAsks 2 = .ok (.invokevirtual 295, 3) := by decide +kernel
theorem dX3_plainAsks_5 : decode cX3_plainAsks 5 = .ok (.aload_n 0, 1) := by decide +kernel
theorem dX3_plainAsks_6 : decode cX3_plainAsks 6 = .ok (.iload_n 1, 1) := by decide +kernel
theorem dX3_plainAsks_7 : decode cX3_plainAsks 7 = .ok (.invokevirtual 310, 3) := by decide +kernel
theorem dX3_plainAsks_10 : decode cX3_plainAsks 10 = .ok (.aload_n 0, 1) := by decide +kernel
theorem dX3_plainAsks_11 : decode cX3_plainAsks 11 = .ok (.getfield 313, 3) := by decide +kernel
theorem dX3_plainAsks_14 : decode cX3_plainAsks 14 = .ok (.isub, 1) := by decide +kernel
theorem dX3_plainAsks_15 : decode cX3_plainAsks 15 = .ok (.ireturn, 1) := by decide +kernel
abbrev cX3_movesActs : ByteArray := prog_22_method_85_code
def yX3_movesActs : MethodName := ⟨RX3, "movesActs", "(I)I"⟩
theorem dX3_movesActs_0 : decode cX3_movesActs 0 = .ok (.aload_n 0, 1) := by decide +kernel
theorem dX3_movesActs_1 : decode cX3_movesActs 1 = .ok (.getfield 301, 3) := by decide +kernel
theorem dX3_movesActs_4 : decode cX3_movesActs 4 = .ok (.iconst 2, 1) := by decide +kernel
theorem dX3_movesActs_5 : decode cX3_movesActs 5 = .ok (.if_icmp .ne 16, 3) := by decide +kernel
theorem dX3_movesActs_8 : decode cX3_movesActs 8 = .ok (.aload_n 0, 1) := by decide +kernel
theorem dX3_movesActs_9 : decode cX3_movesActs 9 = .ok (.bipush 21, 2) := by decide +kernel
theorem dX3_movesActs_11 : decode cX3_movesActs 11 = .ok (.invokevirtual 295, 3) := by decide +kernel
theorem dX3_movesActs_14 : decode cX3_movesActs 14 = .ok (.aload_n 0, 1) := by decide +kernel
theorem dX3_movesActs_15 : decode cX3_movesActs 15 = .ok (.iload_n 1, 1) := by decide +kernel
theorem dX3_movesActs_16 : decode cX3_movesActs 16 = .ok (.invokevirtual 325, 3) := by decide +kernel
theorem dX3_movesActs_19 : decode cX3_movesActs 19 = .ok (.ineg, 1) := by decide +kernel
theorem dX3_movesActs_20 : decode cX3_movesActs 20 = .ok (.ireturn, 1) := by decide +kernel
theorem dX3_movesActs_21 : decode cX3_movesActs 21 = .ok (.aload_n 0, 1) := by decide +kernel
theorem dX3_movesActs_22 : decode cX3_movesActs 22 = .ok (.getfield 301, 3) := by decide +kernel
theorem dX3_movesActs_25 : decode cX3_movesActs 25 = .ok (.iconst 5, 1) := by decide +kernel
theorem dX3_movesActs_26 : decode cX3_movesActs 26 = .ok (.if_icmp .ne 17, 3) := by decide +kernel
theorem dX3_movesActs_29 : decode cX3_movesActs 29 = .ok (.aload_n 0, 1) := by decide +kernel
theorem dX3_movesActs_30 : decode cX3_movesActs 30 = .ok (.bipush 51, 2) := by decide +kernel
theorem dX3_movesActs_32 : decode cX3_movesActs 32 = .ok (.invokevirtual 295, 3) := by decide +kernel
theorem dX3_movesActs_35 : decode cX3_movesActs 35 = .ok (.aload_n 0, 1) := by decide +kernel
theorem dX3_movesActs_36 : decode cX3_movesActs 36 = .ok (.iload_n 1, 1) := by decide +kernel
theorem dX3_movesActs_37 : decode cX3_movesActs 37 = .ok (.iconst 2, 1) := by decide +kernel
theorem dX3_movesActs_38 : decode cX3_movesActs 38 = .ok (.isub, 1) := by decide +kernel
theorem dX3_movesActs_39 : decode cX3_movesActs 39 = .ok (.invokevirtual 325, 3) := by decide +kernel
theorem dX3_movesActs_42 : decode cX3_movesActs 42 = .ok (.ireturn, 1) := by decide +kernel
theorem dX3_movesActs_43 : decode cX3_movesActs 43 = .ok (.aload_n 0, 1) := by decide +kernel
theorem dX3_movesActs_44 : decode cX3_movesActs 44 = .ok (.iload_n 1, 1) := by decide +kernel
theorem dX3_movesActs_45 : decode cX3_movesActs 45 = .ok (.invokevirtual 325, 3) := by decide +kernel
theorem dX3_movesActs_48 : decode cX3_movesActs 48 = .ok (.ireturn, 1) := by decide +kernel
abbrev cX3_plainMoves : ByteArray := prog_22_method_84_code
def yX3_plainMoves : MethodName := ⟨RX3, "plainMoves", "(I)I"⟩
theorem dX3_plainMoves_0 : decode cX3_plainMoves 0 = .ok (.aload_n 0, 1) := by decide +kernel
theorem dX3_plainMoves_1 : decode cX3_plainMoves 1 = .ok (.iconst 3, 1) := by decide +kernel
theorem dX3_plainMoves_2 : decode cX3_plainMoves 2 = .ok (.invokevirtual 295, 3) := by decide +kernel
theorem dX3_plainMoves_5 : decode cX3_plainMoves 5 = .ok (.aload_n 0, 1) := by decide +kernel
theorem dX3_plainMoves_6 : decode cX3_plainMoves 6 = .ok (.iload_n 1, 1) := by decide +kernel
theorem dX3_plainMoves_7 : decode cX3_plainMoves 7 = .ok (.invokevirtual 322, 3) := by decide +kernel
theorem dX3_plainMoves_10 : decode cX3_plainMoves 10 = .ok (.iconst 2, 1) := by decide +kernel
theorem dX3_plainMoves_11 : decode cX3_plainMoves 11 = .ok (.imul, 1) := by decide +kernel
theorem dX3_plainMoves_12 : decode cX3_plainMoves 12 = .ok (.ireturn, 1) := by decide +kernel
abbrev cX3_trace : ByteArray := prog_22_method_87_code
def yX3_trace : MethodName := ⟨RX3, "trace", "(I)I"⟩
theorem dX3_trace_0 : decode cX3_trace 0 = .ok (.iload_n 1, 1) := by decide +kernel
theorem dX3_trace_1 : decode cX3_trace 1 = .ok (.iconst 0, 1) := by decide +kernel
theorem dX3_trace_2 : decode cX3_trace 2 = .ok (.aload_n 0, 1) := by decide +kernel
theorem dX3_trace_3 : decode cX3_trace 3 = .ok (.getfield 292, 3) := by decide +kernel
theorem dX3_trace_6 : decode cX3_trace 6 = .ok (.bipush 20, 2) := by decide +kernel
theorem dX3_trace_8 : decode cX3_trace 8 = .ok (.if_icmp .ge 10, 3) := by decide +kernel
theorem dX3_trace_11 : decode cX3_trace 11 = .ok (.aload_n 0, 1) := by decide +kernel
theorem dX3_trace_12 : decode cX3_trace 12 = .ok (.getfield 292, 3) := by decide +kernel
theorem dX3_trace_15 : decode cX3_trace 15 = .ok (.goto 5, 3) := by decide +kernel
theorem dX3_trace_18 : decode cX3_trace 18 = .ok (.bipush 20, 2) := by decide +kernel
theorem dX3_trace_20 : decode cX3_trace 20 = .ok (.iconst 1, 1) := by decide +kernel
theorem dX3_trace_21 : decode cX3_trace 21 = .ok (.isub, 1) := by decide +kernel
theorem dX3_trace_22 : decode cX3_trace 22 = .ok (.invokestatic 69, 3) := by decide +kernel
theorem dX3_trace_25 : decode cX3_trace 25 = .ok (.ifCond .eq 12, 3) := by decide +kernel
theorem dX3_trace_28 : decode cX3_trace 28 = .ok (.aload_n 0, 1) := by decide +kernel
theorem dX3_trace_29 : decode cX3_trace 29 = .ok (.getfield 63, 3) := by decide +kernel
theorem dX3_trace_32 : decode cX3_trace 32 = .ok (.iload_n 1, 1) := by decide +kernel
theorem dX3_trace_33 : decode cX3_trace 33 = .ok (.iaload, 1) := by decide +kernel
theorem dX3_trace_34 : decode cX3_trace 34 = .ok (.goto 4, 3) := by decide +kernel
theorem dX3_trace_37 : decode cX3_trace 37 = .ok (.iconst (-1), 1) := by decide +kernel
theorem dX3_trace_38 : decode cX3_trace 38 = .ok (.ireturn, 1) := by decide +kernel
abbrev cX3_as : ByteArray := prog_22_method_88_code
def yX3_as : MethodName := ⟨RX3, "as", "(II)I"⟩
theorem dX3_as_0 : decode cX3_as 0 = .ok (.aload_n 0, 1) := by decide +kernel
theorem dX3_as_1 : decode cX3_as 1 = .ok (.iload_n 1, 1) := by decide +kernel
theorem dX3_as_2 : decode cX3_as 2 = .ok (.invokevirtual 98, 3) := by decide +kernel
theorem dX3_as_5 : decode cX3_as 5 = .ok (.ifCond .eq 13, 3) := by decide +kernel
theorem dX3_as_8 : decode cX3_as 8 = .ok (.iload_n 2, 1) := by decide +kernel
theorem dX3_as_9 : decode cX3_as 9 = .ok (.iconst 0, 1) := by decide +kernel
theorem dX3_as_10 : decode cX3_as 10 = .ok (.bipush 6, 2) := by decide +kernel
theorem dX3_as_12 : decode cX3_as 12 = .ok (.invokestatic 69, 3) := by decide +kernel
theorem dX3_as_15 : decode cX3_as 15 = .ok (.ifCond .ne 5, 3) := by decide +kernel
theorem dX3_as_18 : decode cX3_as 18 = .ok (.iconst (-1), 1) := by decide +kernel
theorem dX3_as_19 : decode cX3_as 19 = .ok (.ireturn, 1) := by decide +kernel
theorem dX3_as_20 : decode cX3_as 20 = .ok (.aload_n 0, 1) := by decide +kernel
theorem dX3_as_21 : decode cX3_as 21 = .ok (.iload_n 1, 1) := by decide +kernel
theorem dX3_as_22 : decode cX3_as 22 = .ok (.invokevirtual 111, 3) := by decide +kernel
theorem dX3_as_25 : decode cX3_as 25 = .ok (.iload_n 2, 1) := by decide +kernel
theorem dX3_as_26 : decode cX3_as 26 = .ok (.invokestatic 307, 3) := by decide +kernel
theorem dX3_as_29 : decode cX3_as 29 = .ok (.ifCond .eq 16, 3) := by decide +kernel
theorem dX3_as_32 : decode cX3_as 32 = .ok (.aload_n 0, 1) := by decide +kernel
theorem dX3_as_33 : decode cX3_as 33 = .ok (.getfield 7, 3) := by decide +kernel
theorem dX3_as_36 : decode cX3_as 36 = .ok (.sipush 130, 3) := by decide +kernel
theorem dX3_as_39 : decode cX3_as 39 = .ok (.iload_n 1, 1) := by decide +kernel
theorem dX3_as_40 : decode cX3_as 40 = .ok (.iadd, 1) := by decide +kernel
theorem dX3_as_41 : decode cX3_as 41 = .ok (.iaload, 1) := by decide +kernel
theorem dX3_as_42 : decode cX3_as 42 = .ok (.goto 5, 3) := by decide +kernel
theorem dX3_as_45 : decode cX3_as 45 = .ok (.bipush (-6), 2) := by decide +kernel
theorem dX3_as_47 : decode cX3_as 47 = .ok (.ireturn, 1) := by decide +kernel
abbrev cX3_image : ByteArray := prog_22_method_89_code
def yX3_image : MethodName := ⟨RX3, "image", "()I"⟩
theorem dX3_image_0 : decode cX3_image 0 = .ok (.iconst 0, 1) := by decide +kernel
theorem dX3_image_1 : decode cX3_image 1 = .ok (.istore_n 1, 1) := by decide +kernel
theorem dX3_image_2 : decode cX3_image 2 = .ok (.iload_n 1, 1) := by decide +kernel
theorem dX3_image_3 : decode cX3_image 3 = .ok (.sipush 240, 3) := by decide +kernel
theorem dX3_image_6 : decode cX3_image 6 = .ok (.if_icmp .ge 21, 3) := by decide +kernel
theorem dX3_image_9 : decode cX3_image 9 = .ok (.aload_n 0, 1) := by decide +kernel
theorem dX3_image_10 : decode cX3_image 10 = .ok (.getfield 13, 3) := by decide +kernel
theorem dX3_image_13 : decode cX3_image 13 = .ok (.iload_n 1, 1) := by decide +kernel
theorem dX3_image_14 : decode cX3_image 14 = .ok (.aload_n 0, 1) := by decide +kernel
theorem dX3_image_15 : decode cX3_image 15 = .ok (.getfield 7, 3) := by decide +kernel
theorem dX3_image_18 : decode cX3_image 18 = .ok (.iload_n 1, 1) := by decide +kernel
theorem dX3_image_19 : decode cX3_image 19 = .ok (.iaload, 1) := by decide +kernel
theorem dX3_image_20 : decode cX3_image 20 = .ok (.iastore, 1) := by decide +kernel
theorem dX3_image_21 : decode cX3_image 21 = .ok (.iinc 1 1, 3) := by decide +kernel
theorem dX3_image_24 : decode cX3_image 24 = .ok (.goto (-22), 3) := by decide +kernel
theorem dX3_image_27 : decode cX3_image 27 = .ok (.aload_n 0, 1) := by decide +kernel
theorem dX3_image_28 : decode cX3_image 28 = .ok (.iconst 1, 1) := by decide +kernel
theorem dX3_image_29 : decode cX3_image 29 = .ok (.putfield 331, 3) := by decide +kernel
theorem dX3_image_32 : decode cX3_image 32 = .ok (.aload_n 0, 1) := by decide +kernel
theorem dX3_image_33 : decode cX3_image 33 = .ok (.getfield 7, 3) := by decide +kernel
theorem dX3_image_36 : decode cX3_image 36 = .ok (.iconst 2, 1) := by decide +kernel
theorem dX3_image_37 : decode cX3_image 37 = .ok (.iaload, 1) := by decide +kernel
theorem dX3_image_38 : decode cX3_image 38 = .ok (.ireturn, 1) := by decide +kernel
abbrev cX3_undo : ByteArray := prog_22_method_90_code
def yX3_undo : MethodName := ⟨RX3, "undo", "()I"⟩
theorem dX3_undo_0 : decode cX3_undo 0 = .ok (.aload_n 0, 1) := by decide +kernel
theorem dX3_undo_1 : decode cX3_undo 1 = .ok (.getfield 331, 3) := by decide +kernel
theorem dX3_undo_4 : decode cX3_undo 4 = .ok (.ifCond .ne 6, 3) := by decide +kernel
theorem dX3_undo_7 : decode cX3_undo 7 = .ok (.bipush (-3), 2) := by decide +kernel
theorem dX3_undo_9 : decode cX3_undo 9 = .ok (.ireturn, 1) := by decide +kernel
theorem dX3_undo_10 : decode cX3_undo 10 = .ok (.iconst 0, 1) := by decide +kernel
theorem dX3_undo_11 : decode cX3_undo 11 = .ok (.istore_n 1, 1) := by decide +kernel
theorem dX3_undo_12 : decode cX3_undo 12 = .ok (.iload_n 1, 1) := by decide +kernel
theorem dX3_undo_13 : decode cX3_undo 13 = .ok (.sipush 240, 3) := by decide +kernel
theorem dX3_undo_16 : decode cX3_undo 16 = .ok (.if_icmp .ge 21, 3) := by decide +kernel
theorem dX3_undo_19 : decode cX3_undo 19 = .ok (.aload_n 0, 1) := by decide +kernel
theorem dX3_undo_20 : decode cX3_undo 20 = .ok (.getfield 7, 3) := by decide +kernel
theorem dX3_undo_23 : decode cX3_undo 23 = .ok (.iload_n 1, 1) := by decide +kernel
theorem dX3_undo_24 : decode cX3_undo 24 = .ok (.aload_n 0, 1) := by decide +kernel
theorem dX3_undo_25 : decode cX3_undo 25 = .ok (.getfield 13, 3) := by decide +kernel
theorem dX3_undo_28 : decode cX3_undo 28 = .ok (.iload_n 1, 1) := by decide +kernel
theorem dX3_undo_29 : decode cX3_undo 29 = .ok (.iaload, 1) := by decide +kernel
theorem dX3_undo_30 : decode cX3_undo 30 = .ok (.iastore, 1) := by decide +kernel
theorem dX3_undo_31 : decode cX3_undo 31 = .ok (.iinc 1 1, 3) := by decide +kernel
theorem dX3_undo_34 : decode cX3_undo 34 = .ok (.goto (-22), 3) := by decide +kernel
theorem dX3_undo_37 : decode cX3_undo 37 = .ok (.aload_n 0, 1) := by decide +kernel
theorem dX3_undo_38 : decode cX3_undo 38 = .ok (.getfield 7, 3) := by decide +kernel
theorem dX3_undo_41 : decode cX3_undo 41 = .ok (.iconst 2, 1) := by decide +kernel
theorem dX3_undo_42 : decode cX3_undo 42 = .ok (.iaload, 1) := by decide +kernel
theorem dX3_undo_43 : decode cX3_undo 43 = .ok (.ireturn, 1) := by decide +kernel
abbrev cX3_count : ByteArray := prog_22_method_92_code
def yX3_count : MethodName := ⟨RX3, "count", "(I)I"⟩
theorem dX3_count_0 : decode cX3_count 0 = .ok (.iload_n 1, 1) := by decide +kernel
theorem dX3_count_1 : decode cX3_count 1 = .ok (.tableswitch 104 0 9 #[55, 62, 69, 74, 79, 86, 86, 86, 94, 99], 55) := by decide +kernel
theorem dX3_count_56 : decode cX3_count 56 = .ok (.aload_n 0, 1) := by decide +kernel
theorem dX3_count_57 : decode cX3_count 57 = .ok (.getfield 7, 3) := by decide +kernel
theorem dX3_count_60 : decode cX3_count 60 = .ok (.iconst 0, 1) := by decide +kernel
theorem dX3_count_61 : decode cX3_count 61 = .ok (.iaload, 1) := by decide +kernel
theorem dX3_count_62 : decode cX3_count 62 = .ok (.ireturn, 1) := by decide +kernel
theorem dX3_count_63 : decode cX3_count 63 = .ok (.aload_n 0, 1) := by decide +kernel
theorem dX3_count_64 : decode cX3_count 64 = .ok (.getfield 7, 3) := by decide +kernel
theorem dX3_count_67 : decode cX3_count 67 = .ok (.iconst 1, 1) := by decide +kernel
theorem dX3_count_68 : decode cX3_count 68 = .ok (.iaload, 1) := by decide +kernel
theorem dX3_count_69 : decode cX3_count 69 = .ok (.ireturn, 1) := by decide +kernel
theorem dX3_count_70 : decode cX3_count 70 = .ok (.aload_n 0, 1) := by decide +kernel
theorem dX3_count_71 : decode cX3_count 71 = .ok (.getfield 73, 3) := by decide +kernel
theorem dX3_count_74 : decode cX3_count 74 = .ok (.ireturn, 1) := by decide +kernel
theorem dX3_count_75 : decode cX3_count 75 = .ok (.aload_n 0, 1) := by decide +kernel
theorem dX3_count_76 : decode cX3_count 76 = .ok (.getfield 277, 3) := by decide +kernel
theorem dX3_count_79 : decode cX3_count 79 = .ok (.ireturn, 1) := by decide +kernel
theorem dX3_count_80 : decode cX3_count 80 = .ok (.aload_n 0, 1) := by decide +kernel
theorem dX3_count_81 : decode cX3_count 81 = .ok (.getfield 7, 3) := by decide +kernel
theorem dX3_count_84 : decode cX3_count 84 = .ok (.iconst 2, 1) := by decide +kernel
theorem dX3_count_85 : decode cX3_count 85 = .ok (.iaload, 1) := by decide +kernel
theorem dX3_count_86 : decode cX3_count 86 = .ok (.ireturn, 1) := by decide +kernel
theorem dX3_count_87 : decode cX3_count 87 = .ok (.aload_n 0, 1) := by decide +kernel
theorem dX3_count_88 : decode cX3_count 88 = .ok (.iload_n 1, 1) := by decide +kernel
theorem dX3_count_89 : decode cX3_count 89 = .ok (.iconst 5, 1) := by decide +kernel
theorem dX3_count_90 : decode cX3_count 90 = .ok (.isub, 1) := by decide +kernel
theorem dX3_count_91 : decode cX3_count 91 = .ok (.invokevirtual 334, 3) := by decide +kernel
theorem dX3_count_94 : decode cX3_count 94 = .ok (.ireturn, 1) := by decide +kernel
theorem dX3_count_95 : decode cX3_count 95 = .ok (.aload_n 0, 1) := by decide +kernel
theorem dX3_count_96 : decode cX3_count 96 = .ok (.getfield 122, 3) := by decide +kernel
theorem dX3_count_99 : decode cX3_count 99 = .ok (.ireturn, 1) := by decide +kernel
theorem dX3_count_100 : decode cX3_count 100 = .ok (.aload_n 0, 1) := by decide +kernel
theorem dX3_count_101 : decode cX3_count 101 = .ok (.getfield 292, 3) := by decide +kernel
theorem dX3_count_104 : decode cX3_count 104 = .ok (.ireturn, 1) := by decide +kernel
theorem dX3_count_105 : decode cX3_count 105 = .ok (.iconst (-1), 1) := by decide +kernel
theorem dX3_count_106 : decode cX3_count 106 = .ok (.ireturn, 1) := by decide +kernel
abbrev cX3_counted : ByteArray := prog_22_method_91_code
def yX3_counted : MethodName := ⟨RX3, "counted", "(I)I"⟩
theorem dX3_counted_0 : decode cX3_counted 0 = .ok (.iconst 0, 1) := by decide +kernel
theorem dX3_counted_1 : decode cX3_counted 1 = .ok (.istore_n 2, 1) := by decide +kernel
theorem dX3_counted_2 : decode cX3_counted 2 = .ok (.iconst 0, 1) := by decide +kernel
theorem dX3_counted_3 : decode cX3_counted 3 = .ok (.istore_n 3, 1) := by decide +kernel
theorem dX3_counted_4 : decode cX3_counted 4 = .ok (.iload_n 3, 1) := by decide +kernel
theorem dX3_counted_5 : decode cX3_counted 5 = .ok (.aload_n 0, 1) := by decide +kernel
theorem dX3_counted_6 : decode cX3_counted 6 = .ok (.getfield 7, 3) := by decide +kernel
theorem dX3_counted_9 : decode cX3_counted 9 = .ok (.iconst 1, 1) := by decide +kernel
theorem dX3_counted_10 : decode cX3_counted 10 = .ok (.iaload, 1) := by decide +kernel
theorem dX3_counted_11 : decode cX3_counted 11 = .ok (.if_icmp .ge 31, 3) := by decide +kernel
theorem dX3_counted_14 : decode cX3_counted 14 = .ok (.iload_n 2, 1) := by decide +kernel
theorem dX3_counted_15 : decode cX3_counted 15 = .ok (.aload_n 0, 1) := by decide +kernel
theorem dX3_counted_16 : decode cX3_counted 16 = .ok (.getfield 7, 3) := by decide +kernel
theorem dX3_counted_19 : decode cX3_counted 19 = .ok (.sipush 166, 3) := by decide +kernel
theorem dX3_counted_22 : decode cX3_counted 22 = .ok (.iload_n 3, 1) := by decide +kernel
theorem dX3_counted_23 : decode cX3_counted 23 = .ok (.iadd, 1) := by decide +kernel
theorem dX3_counted_24 : decode cX3_counted 24 = .ok (.iaload, 1) := by decide +kernel
theorem dX3_counted_25 : decode cX3_counted 25 = .ok (.iload_n 1, 1) := by decide +kernel
theorem dX3_counted_26 : decode cX3_counted 26 = .ok (.if_icmp .ne 7, 3) := by decide +kernel
theorem dX3_counted_29 : decode cX3_counted 29 = .ok (.iconst 1, 1) := by decide +kernel
theorem dX3_counted_30 : decode cX3_counted 30 = .ok (.goto 4, 3) := by decide +kernel
theorem dX3_counted_33 : decode cX3_counted 33 = .ok (.iconst 0, 1) := by decide +kernel
theorem dX3_counted_34 : decode cX3_counted 34 = .ok (.iadd, 1) := by decide +kernel
theorem dX3_counted_35 : decode cX3_counted 35 = .ok (.istore_n 2, 1) := by decide +kernel
theorem dX3_counted_36 : decode cX3_counted 36 = .ok (.iinc 3 1, 3) := by decide +kernel
theorem dX3_counted_39 : decode cX3_counted 39 = .ok (.goto (-35), 3) := by decide +kernel
theorem dX3_counted_42 : decode cX3_counted 42 = .ok (.iload_n 2, 1) := by decide +kernel
theorem dX3_counted_43 : decode cX3_counted 43 = .ok (.ireturn, 1) := by decide +kernel
theorem q92 : (Jvm.Cond.initialized "ShellBeachModel") ∈ lw_all := lw_g (lw_at lw_m1 7 rfl) rfl
theorem q408 : (Jvm.Cond.selects "ShellBeachModel" ({ cls := "java/lang/Object", name := "getClass", desc := "()Ljava/lang/Class;" } : Jvm.MethodName) ({ cls := "java/lang/Object", name := "getClass", desc := "()Ljava/lang/Class;" } : Jvm.MethodName)) ∈ lw_all := lw_g (lw_at lw_m2 83 rfl) rfl
theorem q1337 : (Jvm.Cond.instantiable "ShellBeachModel" (39 : Nat)) ∈ lw_all := lw_g (lw_at lw_m6 52 rfl) rfl
theorem q1339 : (Jvm.Cond.instanceMethod ({ cls := "ShellBeachModel", name := "<init>", desc := "()V" } : Jvm.MethodName)) ∈ lw_all := lw_g (lw_at lw_m6 54 rfl) rfl
theorem q1340 : (Jvm.Cond.code ({ cls := "ShellBeachModel", name := "<init>", desc := "()V" } : Jvm.MethodName) prog_22_method_1_code (1 : Nat) (Option.none : Option Jvm.ClassFile.FieldType)) ∈ lw_all := lw_g (lw_at lw_m6 55 rfl) rfl
theorem q1341 : (Jvm.Cond.methodLink "ShellBeachModel" (1 : Nat) ({ cls := "java/lang/Object", name := "<init>", desc := "()V" } : Jvm.MethodName)) ∈ lw_all := lw_g (lw_at lw_m6 56 rfl) rfl
theorem q1342 : (Jvm.Cond.fieldLink "ShellBeachModel" (7 : Nat) "ShellBeachModel" "s" "[I") ∈ lw_all := lw_g (lw_at lw_m6 57 rfl) rfl
theorem q1343 : (Jvm.Cond.fieldLink "ShellBeachModel" (13 : Nat) "ShellBeachModel" "image" "[I") ∈ lw_all := lw_g (lw_at lw_m6 58 rfl) rfl
theorem q1344 : (Jvm.Cond.fieldLink "ShellBeachModel" (16 : Nat) "ShellBeachModel" "kept" "[I") ∈ lw_all := lw_g (lw_at lw_m6 59 rfl) rfl
theorem q1345 : (Jvm.Cond.fieldLink "ShellBeachModel" (331 : Nat) "ShellBeachModel" "hasImage" "Z") ∈ lw_all := lw_g (lw_at lw_m6 60 rfl) rfl
theorem q1346 : (Jvm.Cond.fieldLink "ShellBeachModel" (73 : Nat) "ShellBeachModel" "habits" "I") ∈ lw_all := lw_g (lw_at lw_m6 61 rfl) rfl
theorem q1347 : (Jvm.Cond.fieldLink "ShellBeachModel" (277 : Nat) "ShellBeachModel" "films" "I") ∈ lw_all := lw_g (lw_at lw_m6 62 rfl) rfl
theorem q1348 : (Jvm.Cond.fieldLink "ShellBeachModel" (122 : Nat) "ShellBeachModel" "taped" "I") ∈ lw_all := lw_g (lw_at lw_m6 63 rfl) rfl
theorem q1349 : (Jvm.Cond.fieldLink "ShellBeachModel" (19 : Nat) "ShellBeachModel" "tape" "[I") ∈ lw_all := lw_g (lw_at lw_m6 64 rfl) rfl
theorem q1350 : (Jvm.Cond.fieldLink "ShellBeachModel" (22 : Nat) "ShellBeachModel" "texts" "[I") ∈ lw_all := lw_g (lw_at lw_m6 65 rfl) rfl
theorem q1351 : (Jvm.Cond.fieldLink "ShellBeachModel" (25 : Nat) "ShellBeachModel" "longs" "[I") ∈ lw_all := lw_g (lw_at lw_m6 66 rfl) rfl
theorem q1352 : (Jvm.Cond.fieldLink "ShellBeachModel" (28 : Nat) "ShellBeachModel" "film" "[I") ∈ lw_all := lw_g (lw_at lw_m6 67 rfl) rfl
theorem q1353 : (Jvm.Cond.fieldLink "ShellBeachModel" (130 : Nat) "ShellBeachModel" "act" "I") ∈ lw_all := lw_g (lw_at lw_m6 68 rfl) rfl
theorem q1354 : (Jvm.Cond.fieldLink "ShellBeachModel" (127 : Nat) "ShellBeachModel" "spot" "I") ∈ lw_all := lw_g (lw_at lw_m6 69 rfl) rfl
theorem q1355 : (Jvm.Cond.fieldLink "ShellBeachModel" (133 : Nat) "ShellBeachModel" "isWrong" "Z") ∈ lw_all := lw_g (lw_at lw_m6 70 rfl) rfl
theorem q1356 : (Jvm.Cond.fieldLink "ShellBeachModel" (153 : Nat) "ShellBeachModel" "open" "I") ∈ lw_all := lw_g (lw_at lw_m6 71 rfl) rfl
theorem q1357 : (Jvm.Cond.fieldLink "ShellBeachModel" (31 : Nat) "ShellBeachModel" "stands" "[I") ∈ lw_all := lw_g (lw_at lw_m6 72 rfl) rfl
theorem q1358 : (Jvm.Cond.fieldLink "ShellBeachModel" (34 : Nat) "ShellBeachModel" "steps" "[I") ∈ lw_all := lw_g (lw_at lw_m6 73 rfl) rfl
theorem q1359 : (Jvm.Cond.fieldLink "ShellBeachModel" (37 : Nat) "ShellBeachModel" "stepMany" "[I") ∈ lw_all := lw_g (lw_at lw_m6 74 rfl) rfl
theorem q1360 : (Jvm.Cond.fieldLink "ShellBeachModel" (40 : Nat) "ShellBeachModel" "truths" "[Z") ∈ lw_all := lw_g (lw_at lw_m6 75 rfl) rfl
theorem q1361 : (Jvm.Cond.fieldLink "ShellBeachModel" (44 : Nat) "ShellBeachModel" "changed" "I") ∈ lw_all := lw_g (lw_at lw_m6 76 rfl) rfl
theorem q1362 : (Jvm.Cond.fieldLink "ShellBeachModel" (189 : Nat) "ShellBeachModel" "change" "I") ∈ lw_all := lw_g (lw_at lw_m6 77 rfl) rfl
theorem q1363 : (Jvm.Cond.fieldLink "ShellBeachModel" (48 : Nat) "ShellBeachModel" "changedIn" "I") ∈ lw_all := lw_g (lw_at lw_m6 78 rfl) rfl
theorem q1364 : (Jvm.Cond.fieldLink "ShellBeachModel" (51 : Nat) "ShellBeachModel" "moved" "[I") ∈ lw_all := lw_g (lw_at lw_m6 79 rfl) rfl
theorem q1365 : (Jvm.Cond.fieldLink "ShellBeachModel" (233 : Nat) "ShellBeachModel" "moves" "I") ∈ lw_all := lw_g (lw_at lw_m6 80 rfl) rfl
theorem q1366 : (Jvm.Cond.fieldLink "ShellBeachModel" (236 : Nat) "ShellBeachModel" "gainedAll" "I") ∈ lw_all := lw_g (lw_at lw_m6 81 rfl) rfl
theorem q1367 : (Jvm.Cond.fieldLink "ShellBeachModel" (239 : Nat) "ShellBeachModel" "leftShell" "I") ∈ lw_all := lw_g (lw_at lw_m6 82 rfl) rfl
theorem q1368 : (Jvm.Cond.fieldLink "ShellBeachModel" (54 : Nat) "ShellBeachModel" "crabs" "[I") ∈ lw_all := lw_g (lw_at lw_m6 83 rfl) rfl
theorem q1369 : (Jvm.Cond.fieldLink "ShellBeachModel" (57 : Nat) "ShellBeachModel" "shells" "[I") ∈ lw_all := lw_g (lw_at lw_m6 84 rfl) rfl
theorem q1370 : (Jvm.Cond.fieldLink "ShellBeachModel" (60 : Nat) "ShellBeachModel" "bestShells" "[I") ∈ lw_all := lw_g (lw_at lw_m6 85 rfl) rfl
theorem q1371 : (Jvm.Cond.fieldLink "ShellBeachModel" (249 : Nat) "ShellBeachModel" "told" "I") ∈ lw_all := lw_g (lw_at lw_m6 86 rfl) rfl
theorem q1372 : (Jvm.Cond.fieldLink "ShellBeachModel" (258 : Nat) "ShellBeachModel" "bestFit" "I") ∈ lw_all := lw_g (lw_at lw_m6 87 rfl) rfl
theorem q1373 : (Jvm.Cond.fieldLink "ShellBeachModel" (255 : Nat) "ShellBeachModel" "hasBest" "Z") ∈ lw_all := lw_g (lw_at lw_m6 88 rfl) rfl
theorem q1374 : (Jvm.Cond.fieldLink "ShellBeachModel" (252 : Nat) "ShellBeachModel" "calms" "I") ∈ lw_all := lw_g (lw_at lw_m6 89 rfl) rfl
theorem q1375 : (Jvm.Cond.fieldLink "ShellBeachModel" (63 : Nat) "ShellBeachModel" "bodies" "[I") ∈ lw_all := lw_g (lw_at lw_m6 90 rfl) rfl
theorem q1376 : (Jvm.Cond.fieldLink "ShellBeachModel" (292 : Nat) "ShellBeachModel" "ran" "I") ∈ lw_all := lw_g (lw_at lw_m6 91 rfl) rfl
theorem q1377 : (Jvm.Cond.fieldLink "ShellBeachModel" (301 : Nat) "ShellBeachModel" "kind" "I") ∈ lw_all := lw_g (lw_at lw_m6 92 rfl) rfl
theorem q1378 : (Jvm.Cond.fieldLink "ShellBeachModel" (298 : Nat) "ShellBeachModel" "who" "I") ∈ lw_all := lw_g (lw_at lw_m6 93 rfl) rfl
theorem q1379 : (Jvm.Cond.fieldLink "ShellBeachModel" (313 : Nat) "ShellBeachModel" "sizeNow" "I") ∈ lw_all := lw_g (lw_at lw_m6 94 rfl) rfl
theorem q1380 : (Jvm.Cond.lays "ShellBeachModel" "ShellBeachModel" "thrown" "I") ∈ lw_all := lw_g (lw_at lw_m6 95 rfl) rfl
theorem q1381 : (Jvm.Cond.soleField "ShellBeachModel" "thrown") ∈ lw_all := lw_g (lw_at lw_m6 96 rfl) rfl
theorem q1382 : (Jvm.Cond.laysFinal "ShellBeachModel" "ShellBeachModel" "s" "[I") ∈ lw_all := lw_g (lw_at lw_m6 97 rfl) rfl
theorem q1383 : (Jvm.Cond.soleField "ShellBeachModel" "s") ∈ lw_all := lw_g (lw_at lw_m6 98 rfl) rfl
theorem q1384 : (Jvm.Cond.laysFinal "ShellBeachModel" "ShellBeachModel" "image" "[I") ∈ lw_all := lw_g (lw_at lw_m6 99 rfl) rfl
theorem q1385 : (Jvm.Cond.soleField "ShellBeachModel" "image") ∈ lw_all := lw_g (lw_at lw_m6 100 rfl) rfl
theorem q1386 : (Jvm.Cond.laysFinal "ShellBeachModel" "ShellBeachModel" "kept" "[I") ∈ lw_all := lw_g (lw_at lw_m6 101 rfl) rfl
theorem q1387 : (Jvm.Cond.soleField "ShellBeachModel" "kept") ∈ lw_all := lw_g (lw_at lw_m6 102 rfl) rfl
theorem q1388 : (Jvm.Cond.lays "ShellBeachModel" "ShellBeachModel" "hasImage" "Z") ∈ lw_all := lw_g (lw_at lw_m6 103 rfl) rfl
theorem q1389 : (Jvm.Cond.soleField "ShellBeachModel" "hasImage") ∈ lw_all := lw_g (lw_at lw_m6 104 rfl) rfl
theorem q1390 : (Jvm.Cond.lays "ShellBeachModel" "ShellBeachModel" "habits" "I") ∈ lw_all := lw_g (lw_at lw_m6 105 rfl) rfl
theorem q1391 : (Jvm.Cond.soleField "ShellBeachModel" "habits") ∈ lw_all := lw_g (lw_at lw_m6 106 rfl) rfl
theorem q1392 : (Jvm.Cond.lays "ShellBeachModel" "ShellBeachModel" "films" "I") ∈ lw_all := lw_g (lw_at lw_m6 107 rfl) rfl
theorem q1393 : (Jvm.Cond.soleField "ShellBeachModel" "films") ∈ lw_all := lw_g (lw_at lw_m6 108 rfl) rfl
theorem q1394 : (Jvm.Cond.lays "ShellBeachModel" "ShellBeachModel" "taped" "I") ∈ lw_all := lw_g (lw_at lw_m6 109 rfl) rfl
theorem q1395 : (Jvm.Cond.soleField "ShellBeachModel" "taped") ∈ lw_all := lw_g (lw_at lw_m6 110 rfl) rfl
theorem q1396 : (Jvm.Cond.laysFinal "ShellBeachModel" "ShellBeachModel" "tape" "[I") ∈ lw_all := lw_g (lw_at lw_m6 111 rfl) rfl
theorem q1397 : (Jvm.Cond.soleField "ShellBeachModel" "tape") ∈ lw_all := lw_g (lw_at lw_m6 112 rfl) rfl
theorem q1398 : (Jvm.Cond.laysFinal "ShellBeachModel" "ShellBeachModel" "texts" "[I") ∈ lw_all := lw_g (lw_at lw_m6 113 rfl) rfl
theorem q1399 : (Jvm.Cond.soleField "ShellBeachModel" "texts") ∈ lw_all := lw_g (lw_at lw_m6 114 rfl) rfl
theorem q1400 : (Jvm.Cond.laysFinal "ShellBeachModel" "ShellBeachModel" "longs" "[I") ∈ lw_all := lw_g (lw_at lw_m6 115 rfl) rfl
theorem q1401 : (Jvm.Cond.soleField "ShellBeachModel" "longs") ∈ lw_all := lw_g (lw_at lw_m6 116 rfl) rfl
theorem q1402 : (Jvm.Cond.laysFinal "ShellBeachModel" "ShellBeachModel" "film" "[I") ∈ lw_all := lw_g (lw_at lw_m6 117 rfl) rfl
theorem q1403 : (Jvm.Cond.soleField "ShellBeachModel" "film") ∈ lw_all := lw_g (lw_at lw_m6 118 rfl) rfl
theorem q1404 : (Jvm.Cond.lays "ShellBeachModel" "ShellBeachModel" "act" "I") ∈ lw_all := lw_g (lw_at lw_m6 119 rfl) rfl
theorem q1405 : (Jvm.Cond.soleField "ShellBeachModel" "act") ∈ lw_all := lw_g (lw_at lw_m6 120 rfl) rfl
theorem q1406 : (Jvm.Cond.lays "ShellBeachModel" "ShellBeachModel" "spot" "I") ∈ lw_all := lw_g (lw_at lw_m6 121 rfl) rfl
theorem q1407 : (Jvm.Cond.soleField "ShellBeachModel" "spot") ∈ lw_all := lw_g (lw_at lw_m6 122 rfl) rfl
theorem q1408 : (Jvm.Cond.lays "ShellBeachModel" "ShellBeachModel" "isWrong" "Z") ∈ lw_all := lw_g (lw_at lw_m6 123 rfl) rfl
theorem q1409 : (Jvm.Cond.soleField "ShellBeachModel" "isWrong") ∈ lw_all := lw_g (lw_at lw_m6 124 rfl) rfl
theorem q1410 : (Jvm.Cond.lays "ShellBeachModel" "ShellBeachModel" "open" "I") ∈ lw_all := lw_g (lw_at lw_m6 125 rfl) rfl
theorem q1411 : (Jvm.Cond.soleField "ShellBeachModel" "open") ∈ lw_all := lw_g (lw_at lw_m6 126 rfl) rfl
theorem q1412 : (Jvm.Cond.laysFinal "ShellBeachModel" "ShellBeachModel" "stands" "[I") ∈ lw_all := lw_g (lw_at lw_m6 127 rfl) rfl
theorem q1413 : (Jvm.Cond.soleField "ShellBeachModel" "stands") ∈ lw_all := lw_g (lw_at lw_m6 128 rfl) rfl
theorem q1414 : (Jvm.Cond.laysFinal "ShellBeachModel" "ShellBeachModel" "steps" "[I") ∈ lw_all := lw_g (lw_at lw_m6 129 rfl) rfl
theorem q1415 : (Jvm.Cond.soleField "ShellBeachModel" "steps") ∈ lw_all := lw_g (lw_at lw_m6 130 rfl) rfl
theorem q1416 : (Jvm.Cond.laysFinal "ShellBeachModel" "ShellBeachModel" "stepMany" "[I") ∈ lw_all := lw_g (lw_at lw_m6 131 rfl) rfl
theorem q1417 : (Jvm.Cond.soleField "ShellBeachModel" "stepMany") ∈ lw_all := lw_g (lw_at lw_m6 132 rfl) rfl
theorem q1418 : (Jvm.Cond.laysFinal "ShellBeachModel" "ShellBeachModel" "truths" "[Z") ∈ lw_all := lw_g (lw_at lw_m6 133 rfl) rfl
theorem q1419 : (Jvm.Cond.soleField "ShellBeachModel" "truths") ∈ lw_all := lw_g (lw_at lw_m6 134 rfl) rfl
theorem q1420 : (Jvm.Cond.lays "ShellBeachModel" "ShellBeachModel" "changed" "I") ∈ lw_all := lw_g (lw_at lw_m6 135 rfl) rfl
theorem q1421 : (Jvm.Cond.soleField "ShellBeachModel" "changed") ∈ lw_all := lw_g (lw_at lw_m6 136 rfl) rfl
theorem q1422 : (Jvm.Cond.lays "ShellBeachModel" "ShellBeachModel" "change" "I") ∈ lw_all := lw_g (lw_at lw_m6 137 rfl) rfl
theorem q1423 : (Jvm.Cond.soleField "ShellBeachModel" "change") ∈ lw_all := lw_g (lw_at lw_m6 138 rfl) rfl
theorem q1424 : (Jvm.Cond.lays "ShellBeachModel" "ShellBeachModel" "changedIn" "I") ∈ lw_all := lw_g (lw_at lw_m6 139 rfl) rfl
theorem q1425 : (Jvm.Cond.soleField "ShellBeachModel" "changedIn") ∈ lw_all := lw_g (lw_at lw_m6 140 rfl) rfl
theorem q1426 : (Jvm.Cond.laysFinal "ShellBeachModel" "ShellBeachModel" "moved" "[I") ∈ lw_all := lw_g (lw_at lw_m6 141 rfl) rfl
theorem q1427 : (Jvm.Cond.soleField "ShellBeachModel" "moved") ∈ lw_all := lw_g (lw_at lw_m6 142 rfl) rfl
theorem q1428 : (Jvm.Cond.lays "ShellBeachModel" "ShellBeachModel" "moves" "I") ∈ lw_all := lw_g (lw_at lw_m6 143 rfl) rfl
theorem q1429 : (Jvm.Cond.soleField "ShellBeachModel" "moves") ∈ lw_all := lw_g (lw_at lw_m6 144 rfl) rfl
theorem q1430 : (Jvm.Cond.lays "ShellBeachModel" "ShellBeachModel" "gainedAll" "I") ∈ lw_all := lw_g (lw_at lw_m6 145 rfl) rfl
theorem q1431 : (Jvm.Cond.soleField "ShellBeachModel" "gainedAll") ∈ lw_all := lw_g (lw_at lw_m6 146 rfl) rfl
theorem q1432 : (Jvm.Cond.lays "ShellBeachModel" "ShellBeachModel" "leftShell" "I") ∈ lw_all := lw_g (lw_at lw_m6 147 rfl) rfl
theorem q1433 : (Jvm.Cond.soleField "ShellBeachModel" "leftShell") ∈ lw_all := lw_g (lw_at lw_m6 148 rfl) rfl
theorem q1434 : (Jvm.Cond.laysFinal "ShellBeachModel" "ShellBeachModel" "crabs" "[I") ∈ lw_all := lw_g (lw_at lw_m6 149 rfl) rfl
theorem q1435 : (Jvm.Cond.soleField "ShellBeachModel" "crabs") ∈ lw_all := lw_g (lw_at lw_m6 150 rfl) rfl
theorem q1436 : (Jvm.Cond.laysFinal "ShellBeachModel" "ShellBeachModel" "shells" "[I") ∈ lw_all := lw_g (lw_at lw_m6 151 rfl) rfl
theorem q1437 : (Jvm.Cond.soleField "ShellBeachModel" "shells") ∈ lw_all := lw_g (lw_at lw_m6 152 rfl) rfl
theorem q1438 : (Jvm.Cond.laysFinal "ShellBeachModel" "ShellBeachModel" "bestShells" "[I") ∈ lw_all := lw_g (lw_at lw_m6 153 rfl) rfl
theorem q1439 : (Jvm.Cond.soleField "ShellBeachModel" "bestShells") ∈ lw_all := lw_g (lw_at lw_m6 154 rfl) rfl
theorem q1440 : (Jvm.Cond.lays "ShellBeachModel" "ShellBeachModel" "told" "I") ∈ lw_all := lw_g (lw_at lw_m6 155 rfl) rfl
theorem q1441 : (Jvm.Cond.soleField "ShellBeachModel" "told") ∈ lw_all := lw_g (lw_at lw_m6 156 rfl) rfl
theorem q1442 : (Jvm.Cond.lays "ShellBeachModel" "ShellBeachModel" "bestFit" "I") ∈ lw_all := lw_g (lw_at lw_m6 157 rfl) rfl
theorem q1443 : (Jvm.Cond.soleField "ShellBeachModel" "bestFit") ∈ lw_all := lw_g (lw_at lw_m6 158 rfl) rfl
theorem q1444 : (Jvm.Cond.lays "ShellBeachModel" "ShellBeachModel" "hasBest" "Z") ∈ lw_all := lw_g (lw_at lw_m6 159 rfl) rfl
theorem q1445 : (Jvm.Cond.soleField "ShellBeachModel" "hasBest") ∈ lw_all := lw_g (lw_at lw_m6 160 rfl) rfl
theorem q1446 : (Jvm.Cond.lays "ShellBeachModel" "ShellBeachModel" "calms" "I") ∈ lw_all := lw_g (lw_at lw_m6 161 rfl) rfl
theorem q1447 : (Jvm.Cond.soleField "ShellBeachModel" "calms") ∈ lw_all := lw_g (lw_at lw_m6 162 rfl) rfl
theorem q1448 : (Jvm.Cond.laysFinal "ShellBeachModel" "ShellBeachModel" "bodies" "[I") ∈ lw_all := lw_g (lw_at lw_m6 163 rfl) rfl
theorem q1449 : (Jvm.Cond.soleField "ShellBeachModel" "bodies") ∈ lw_all := lw_g (lw_at lw_m6 164 rfl) rfl
theorem q1450 : (Jvm.Cond.lays "ShellBeachModel" "ShellBeachModel" "ran" "I") ∈ lw_all := lw_g (lw_at lw_m6 165 rfl) rfl
theorem q1451 : (Jvm.Cond.soleField "ShellBeachModel" "ran") ∈ lw_all := lw_g (lw_at lw_m6 166 rfl) rfl
theorem q1452 : (Jvm.Cond.lays "ShellBeachModel" "ShellBeachModel" "kind" "I") ∈ lw_all := lw_g (lw_at lw_m6 167 rfl) rfl
theorem q1453 : (Jvm.Cond.soleField "ShellBeachModel" "kind") ∈ lw_all := lw_g (lw_at lw_m6 168 rfl) rfl
theorem q1454 : (Jvm.Cond.lays "ShellBeachModel" "ShellBeachModel" "who" "I") ∈ lw_all := lw_g (lw_at lw_m6 169 rfl) rfl
theorem q1455 : (Jvm.Cond.soleField "ShellBeachModel" "who") ∈ lw_all := lw_g (lw_at lw_m6 170 rfl) rfl
theorem q1456 : (Jvm.Cond.lays "ShellBeachModel" "ShellBeachModel" "sizeNow" "I") ∈ lw_all := lw_g (lw_at lw_m6 171 rfl) rfl
theorem q1457 : (Jvm.Cond.soleField "ShellBeachModel" "sizeNow") ∈ lw_all := lw_g (lw_at lw_m6 172 rfl) rfl
theorem q1458 : (Jvm.Cond.superclass "ShellBeachModel" "java/lang/Object") ∈ lw_all := lw_g (lw_at lw_m6 173 rfl) rfl
theorem q1461 : (Jvm.Cond.instanceMethod ({ cls := "ShellBeachModel", name := "shell", desc := "(IIII)I" } : Jvm.MethodName)) ∈ lw_all := lw_g (lw_at lw_m6 176 rfl) rfl
theorem q1462 : (Jvm.Cond.selects "ShellBeachModel" ({ cls := "ShellBeachModel", name := "shell", desc := "(IIII)I" } : Jvm.MethodName) ({ cls := "ShellBeachModel", name := "shell", desc := "(IIII)I" } : Jvm.MethodName)) ∈ lw_all := lw_g (lw_at lw_m6 177 rfl) rfl
theorem q1463 : (Jvm.Cond.code ({ cls := "ShellBeachModel", name := "shell", desc := "(IIII)I" } : Jvm.MethodName) prog_22_method_12_code (6 : Nat) (Option.some Jvm.ClassFile.FieldType.int)) ∈ lw_all := lw_g (lw_at lw_m6 178 rfl) rfl
theorem q1464 : (Jvm.Cond.methodLink "ShellBeachModel" (88 : Nat) ({ cls := "ShellBeachModel", name := "isCell", desc := "(I)Z" } : Jvm.MethodName)) ∈ lw_all := lw_g (lw_at lw_m6 179 rfl) rfl
theorem q1465 : (Jvm.Cond.static ({ cls := "ShellBeachModel", name := "isCell", desc := "(I)Z" } : Jvm.MethodName)) ∈ lw_all := lw_g (lw_at lw_m6 180 rfl) rfl
theorem q1466 : (Jvm.Cond.code ({ cls := "ShellBeachModel", name := "isCell", desc := "(I)Z" } : Jvm.MethodName) prog_22_method_4_code (1 : Nat) (Option.some Jvm.ClassFile.FieldType.boolean)) ∈ lw_all := lw_g (lw_at lw_m6 181 rfl) rfl
theorem q1467 : (Jvm.Cond.methodLink "ShellBeachModel" (69 : Nat) ({ cls := "ShellBeachModel", name := "in", desc := "(III)Z" } : Jvm.MethodName)) ∈ lw_all := lw_g (lw_at lw_m6 182 rfl) rfl
theorem q1468 : (Jvm.Cond.static ({ cls := "ShellBeachModel", name := "in", desc := "(III)Z" } : Jvm.MethodName)) ∈ lw_all := lw_g (lw_at lw_m6 183 rfl) rfl
theorem q1469 : (Jvm.Cond.code ({ cls := "ShellBeachModel", name := "in", desc := "(III)Z" } : Jvm.MethodName) prog_22_method_3_code (3 : Nat) (Option.some Jvm.ClassFile.FieldType.boolean)) ∈ lw_all := lw_g (lw_at lw_m6 184 rfl) rfl
theorem q1471 : (Jvm.Cond.instanceMethod ({ cls := "ShellBeachModel", name := "crab", desc := "(III)I" } : Jvm.MethodName)) ∈ lw_all := lw_g (lw_at lw_m6 186 rfl) rfl
theorem q1472 : (Jvm.Cond.selects "ShellBeachModel" ({ cls := "ShellBeachModel", name := "crab", desc := "(III)I" } : Jvm.MethodName) ({ cls := "ShellBeachModel", name := "crab", desc := "(III)I" } : Jvm.MethodName)) ∈ lw_all := lw_g (lw_at lw_m6 187 rfl) rfl
theorem q1473 : (Jvm.Cond.code ({ cls := "ShellBeachModel", name := "crab", desc := "(III)I" } : Jvm.MethodName) prog_22_method_14_code (5 : Nat) (Option.some Jvm.ClassFile.FieldType.int)) ∈ lw_all := lw_g (lw_at lw_m6 188 rfl) rfl
theorem q1474 : (Jvm.Cond.methodLink "ShellBeachModel" (91 : Nat) ({ cls := "ShellBeachModel", name := "isShell", desc := "(I)Z" } : Jvm.MethodName)) ∈ lw_all := lw_g (lw_at lw_m6 189 rfl) rfl
theorem q1475 : (Jvm.Cond.privateMethod ({ cls := "ShellBeachModel", name := "isShell", desc := "(I)Z" } : Jvm.MethodName)) ∈ lw_tbl := lw_at lw_m6 190 rfl
theorem q1476 : (Jvm.Cond.instanceMethod ({ cls := "ShellBeachModel", name := "isShell", desc := "(I)Z" } : Jvm.MethodName)) ∈ lw_all := lw_g (lw_at lw_m6 191 rfl) rfl
theorem q1477 : (Jvm.Cond.code ({ cls := "ShellBeachModel", name := "isShell", desc := "(I)Z" } : Jvm.MethodName) prog_22_method_5_code (2 : Nat) (Option.some Jvm.ClassFile.FieldType.boolean)) ∈ lw_all := lw_g (lw_at lw_m6 192 rfl) rfl
theorem q1478 : (Jvm.Cond.methodLink "ShellBeachModel" (94 : Nat) ({ cls := "ShellBeachModel", name := "goesIn", desc := "(II)V" } : Jvm.MethodName)) ∈ lw_all := lw_g (lw_at lw_m6 193 rfl) rfl
theorem q1479 : (Jvm.Cond.privateMethod ({ cls := "ShellBeachModel", name := "goesIn", desc := "(II)V" } : Jvm.MethodName)) ∈ lw_tbl := lw_at lw_m6 194 rfl
theorem q1480 : (Jvm.Cond.instanceMethod ({ cls := "ShellBeachModel", name := "goesIn", desc := "(II)V" } : Jvm.MethodName)) ∈ lw_all := lw_g (lw_at lw_m6 195 rfl) rfl
theorem q1481 : (Jvm.Cond.code ({ cls := "ShellBeachModel", name := "goesIn", desc := "(II)V" } : Jvm.MethodName) prog_22_method_13_code (3 : Nat) (Option.none : Option Jvm.ClassFile.FieldType)) ∈ lw_all := lw_g (lw_at lw_m6 196 rfl) rfl
theorem q1483 : (Jvm.Cond.instanceMethod ({ cls := "ShellBeachModel", name := "habit", desc := "(II)I" } : Jvm.MethodName)) ∈ lw_all := lw_g (lw_at lw_m6 198 rfl) rfl
theorem q1484 : (Jvm.Cond.selects "ShellBeachModel" ({ cls := "ShellBeachModel", name := "habit", desc := "(II)I" } : Jvm.MethodName) ({ cls := "ShellBeachModel", name := "habit", desc := "(II)I" } : Jvm.MethodName)) ∈ lw_all := lw_g (lw_at lw_m6 199 rfl) rfl
theorem q1485 : (Jvm.Cond.code ({ cls := "ShellBeachModel", name := "habit", desc := "(II)I" } : Jvm.MethodName) prog_22_method_15_code (4 : Nat) (Option.some Jvm.ClassFile.FieldType.int)) ∈ lw_all := lw_g (lw_at lw_m6 200 rfl) rfl
theorem q1486 : (Jvm.Cond.methodLink "ShellBeachModel" (98 : Nat) ({ cls := "ShellBeachModel", name := "isCrab", desc := "(I)Z" } : Jvm.MethodName)) ∈ lw_all := lw_g (lw_at lw_m6 201 rfl) rfl
theorem q1487 : (Jvm.Cond.privateMethod ({ cls := "ShellBeachModel", name := "isCrab", desc := "(I)Z" } : Jvm.MethodName)) ∈ lw_tbl := lw_at lw_m6 202 rfl
theorem q1488 : (Jvm.Cond.instanceMethod ({ cls := "ShellBeachModel", name := "isCrab", desc := "(I)Z" } : Jvm.MethodName)) ∈ lw_all := lw_g (lw_at lw_m6 203 rfl) rfl
theorem q1489 : (Jvm.Cond.code ({ cls := "ShellBeachModel", name := "isCrab", desc := "(I)Z" } : Jvm.MethodName) prog_22_method_6_code (2 : Nat) (Option.some Jvm.ClassFile.FieldType.boolean)) ∈ lw_all := lw_g (lw_at lw_m6 204 rfl) rfl
theorem q1490 : (Jvm.Cond.methodLink "ShellBeachModel" (101 : Nat) ({ cls := "ShellBeachModel", name := "isHabit", desc := "(I)Z" } : Jvm.MethodName)) ∈ lw_all := lw_g (lw_at lw_m6 205 rfl) rfl
theorem q1491 : (Jvm.Cond.privateMethod ({ cls := "ShellBeachModel", name := "isHabit", desc := "(I)Z" } : Jvm.MethodName)) ∈ lw_tbl := lw_at lw_m6 206 rfl
theorem q1492 : (Jvm.Cond.instanceMethod ({ cls := "ShellBeachModel", name := "isHabit", desc := "(I)Z" } : Jvm.MethodName)) ∈ lw_all := lw_g (lw_at lw_m6 207 rfl) rfl
theorem q1493 : (Jvm.Cond.code ({ cls := "ShellBeachModel", name := "isHabit", desc := "(I)Z" } : Jvm.MethodName) prog_22_method_7_code (2 : Nat) (Option.some Jvm.ClassFile.FieldType.boolean)) ∈ lw_all := lw_g (lw_at lw_m6 208 rfl) rfl
theorem q1495 : (Jvm.Cond.instanceMethod ({ cls := "ShellBeachModel", name := "walk", desc := "(II)I" } : Jvm.MethodName)) ∈ lw_all := lw_g (lw_at lw_m6 210 rfl) rfl
theorem q1496 : (Jvm.Cond.selects "ShellBeachModel" ({ cls := "ShellBeachModel", name := "walk", desc := "(II)I" } : Jvm.MethodName) ({ cls := "ShellBeachModel", name := "walk", desc := "(II)I" } : Jvm.MethodName)) ∈ lw_all := lw_g (lw_at lw_m6 211 rfl) rfl
theorem q1497 : (Jvm.Cond.code ({ cls := "ShellBeachModel", name := "walk", desc := "(II)I" } : Jvm.MethodName) prog_22_method_16_code (4 : Nat) (Option.some Jvm.ClassFile.FieldType.int)) ∈ lw_all := lw_g (lw_at lw_m6 212 rfl) rfl
theorem q1499 : (Jvm.Cond.instanceMethod ({ cls := "ShellBeachModel", name := "of", desc := "(II)I" } : Jvm.MethodName)) ∈ lw_all := lw_g (lw_at lw_m6 214 rfl) rfl
theorem q1500 : (Jvm.Cond.selects "ShellBeachModel" ({ cls := "ShellBeachModel", name := "of", desc := "(II)I" } : Jvm.MethodName) ({ cls := "ShellBeachModel", name := "of", desc := "(II)I" } : Jvm.MethodName)) ∈ lw_all := lw_g (lw_at lw_m6 215 rfl) rfl
theorem q1501 : (Jvm.Cond.code ({ cls := "ShellBeachModel", name := "of", desc := "(II)I" } : Jvm.MethodName) prog_22_method_17_code (3 : Nat) (Option.some Jvm.ClassFile.FieldType.int)) ∈ lw_all := lw_g (lw_at lw_m6 216 rfl) rfl
theorem q1503 : (Jvm.Cond.instanceMethod ({ cls := "ShellBeachModel", name := "about", desc := "(II)I" } : Jvm.MethodName)) ∈ lw_all := lw_g (lw_at lw_m6 218 rfl) rfl
theorem q1504 : (Jvm.Cond.selects "ShellBeachModel" ({ cls := "ShellBeachModel", name := "about", desc := "(II)I" } : Jvm.MethodName) ({ cls := "ShellBeachModel", name := "about", desc := "(II)I" } : Jvm.MethodName)) ∈ lw_all := lw_g (lw_at lw_m6 219 rfl) rfl
theorem q1505 : (Jvm.Cond.code ({ cls := "ShellBeachModel", name := "about", desc := "(II)I" } : Jvm.MethodName) prog_22_method_21_code (3 : Nat) (Option.some Jvm.ClassFile.FieldType.int)) ∈ lw_all := lw_g (lw_at lw_m6 220 rfl) rfl
theorem q1506 : (Jvm.Cond.methodLink "ShellBeachModel" (111 : Nat) ({ cls := "ShellBeachModel", name := "kindOf", desc := "(I)I" } : Jvm.MethodName)) ∈ lw_all := lw_g (lw_at lw_m6 221 rfl) rfl
theorem q1507 : (Jvm.Cond.privateMethod ({ cls := "ShellBeachModel", name := "kindOf", desc := "(I)I" } : Jvm.MethodName)) ∈ lw_tbl := lw_at lw_m6 222 rfl
theorem q1508 : (Jvm.Cond.instanceMethod ({ cls := "ShellBeachModel", name := "kindOf", desc := "(I)I" } : Jvm.MethodName)) ∈ lw_all := lw_g (lw_at lw_m6 223 rfl) rfl
theorem q1509 : (Jvm.Cond.code ({ cls := "ShellBeachModel", name := "kindOf", desc := "(I)I" } : Jvm.MethodName) prog_22_method_20_code (4 : Nat) (Option.some Jvm.ClassFile.FieldType.int)) ∈ lw_all := lw_g (lw_at lw_m6 224 rfl) rfl
theorem q1510 : (Jvm.Cond.methodLink "ShellBeachModel" (80 : Nat) ({ cls := "ShellBeachModel", name := "isHoused", desc := "(I)Z" } : Jvm.MethodName)) ∈ lw_all := lw_g (lw_at lw_m6 225 rfl) rfl
theorem q1511 : (Jvm.Cond.privateMethod ({ cls := "ShellBeachModel", name := "isHoused", desc := "(I)Z" } : Jvm.MethodName)) ∈ lw_tbl := lw_at lw_m6 226 rfl
theorem q1512 : (Jvm.Cond.instanceMethod ({ cls := "ShellBeachModel", name := "isHoused", desc := "(I)Z" } : Jvm.MethodName)) ∈ lw_all := lw_g (lw_at lw_m6 227 rfl) rfl
theorem q1513 : (Jvm.Cond.code ({ cls := "ShellBeachModel", name := "isHoused", desc := "(I)Z" } : Jvm.MethodName) prog_22_method_10_code (2 : Nat) (Option.some Jvm.ClassFile.FieldType.boolean)) ∈ lw_all := lw_g (lw_at lw_m6 228 rfl) rfl
theorem q1514 : (Jvm.Cond.methodLink "ShellBeachModel" (104 : Nat) ({ cls := "ShellBeachModel", name := "waits", desc := "(I)Z" } : Jvm.MethodName)) ∈ lw_all := lw_g (lw_at lw_m6 229 rfl) rfl
theorem q1515 : (Jvm.Cond.privateMethod ({ cls := "ShellBeachModel", name := "waits", desc := "(I)Z" } : Jvm.MethodName)) ∈ lw_tbl := lw_at lw_m6 230 rfl
theorem q1516 : (Jvm.Cond.instanceMethod ({ cls := "ShellBeachModel", name := "waits", desc := "(I)Z" } : Jvm.MethodName)) ∈ lw_all := lw_g (lw_at lw_m6 231 rfl) rfl
theorem q1517 : (Jvm.Cond.code ({ cls := "ShellBeachModel", name := "waits", desc := "(I)Z" } : Jvm.MethodName) prog_22_method_18_code (2 : Nat) (Option.some Jvm.ClassFile.FieldType.boolean)) ∈ lw_all := lw_g (lw_at lw_m6 232 rfl) rfl
theorem q1518 : (Jvm.Cond.methodLink "ShellBeachModel" (107 : Nat) ({ cls := "ShellBeachModel", name := "isAhead", desc := "(II)Z" } : Jvm.MethodName)) ∈ lw_all := lw_g (lw_at lw_m6 233 rfl) rfl
theorem q1519 : (Jvm.Cond.privateMethod ({ cls := "ShellBeachModel", name := "isAhead", desc := "(II)Z" } : Jvm.MethodName)) ∈ lw_tbl := lw_at lw_m6 234 rfl
theorem q1520 : (Jvm.Cond.instanceMethod ({ cls := "ShellBeachModel", name := "isAhead", desc := "(II)Z" } : Jvm.MethodName)) ∈ lw_all := lw_g (lw_at lw_m6 235 rfl) rfl
theorem q1521 : (Jvm.Cond.code ({ cls := "ShellBeachModel", name := "isAhead", desc := "(II)Z" } : Jvm.MethodName) prog_22_method_19_code (3 : Nat) (Option.some Jvm.ClassFile.FieldType.boolean)) ∈ lw_all := lw_g (lw_at lw_m6 236 rfl) rfl
theorem q1522 : (Jvm.Cond.methodLink "ShellBeachModel" (115 : Nat) ({ cls := "ShellBeachModel", name := "own", desc := "(I)I" } : Jvm.MethodName)) ∈ lw_all := lw_g (lw_at lw_m6 237 rfl) rfl
theorem q1523 : (Jvm.Cond.privateMethod ({ cls := "ShellBeachModel", name := "own", desc := "(I)I" } : Jvm.MethodName)) ∈ lw_tbl := lw_at lw_m6 238 rfl
theorem q1524 : (Jvm.Cond.instanceMethod ({ cls := "ShellBeachModel", name := "own", desc := "(I)I" } : Jvm.MethodName)) ∈ lw_all := lw_g (lw_at lw_m6 239 rfl) rfl
theorem q1525 : (Jvm.Cond.code ({ cls := "ShellBeachModel", name := "own", desc := "(I)I" } : Jvm.MethodName) prog_22_method_11_code (2 : Nat) (Option.some Jvm.ClassFile.FieldType.int)) ∈ lw_all := lw_g (lw_at lw_m7 0 rfl) rfl
theorem q1526 : (Jvm.Cond.methodLink "ShellBeachModel" (84 : Nat) ({ cls := "ShellBeachModel", name := "fitFor", desc := "(II)I" } : Jvm.MethodName)) ∈ lw_all := lw_g (lw_at lw_m7 1 rfl) rfl
theorem q1527 : (Jvm.Cond.privateMethod ({ cls := "ShellBeachModel", name := "fitFor", desc := "(II)I" } : Jvm.MethodName)) ∈ lw_tbl := lw_at lw_m7 2 rfl
theorem q1528 : (Jvm.Cond.instanceMethod ({ cls := "ShellBeachModel", name := "fitFor", desc := "(II)I" } : Jvm.MethodName)) ∈ lw_all := lw_g (lw_at lw_m7 3 rfl) rfl
theorem q1529 : (Jvm.Cond.code ({ cls := "ShellBeachModel", name := "fitFor", desc := "(II)I" } : Jvm.MethodName) prog_22_method_9_code (3 : Nat) (Option.some Jvm.ClassFile.FieldType.int)) ∈ lw_all := lw_g (lw_at lw_m7 4 rfl) rfl
theorem q1530 : (Jvm.Cond.methodLink "ShellBeachModel" (76 : Nat) ({ cls := "ShellBeachModel", name := "fitOf", desc := "(IIII)I" } : Jvm.MethodName)) ∈ lw_all := lw_g (lw_at lw_m7 5 rfl) rfl
theorem q1531 : (Jvm.Cond.static ({ cls := "ShellBeachModel", name := "fitOf", desc := "(IIII)I" } : Jvm.MethodName)) ∈ lw_all := lw_g (lw_at lw_m7 6 rfl) rfl
theorem q1532 : (Jvm.Cond.code ({ cls := "ShellBeachModel", name := "fitOf", desc := "(IIII)I" } : Jvm.MethodName) prog_22_method_8_code (5 : Nat) (Option.some Jvm.ClassFile.FieldType.int)) ∈ lw_all := lw_g (lw_at lw_m7 7 rfl) rfl
theorem q1534 : (Jvm.Cond.instanceMethod ({ cls := "ShellBeachModel", name := "fit", desc := "(II)I" } : Jvm.MethodName)) ∈ lw_all := lw_g (lw_at lw_m7 9 rfl) rfl
theorem q1535 : (Jvm.Cond.selects "ShellBeachModel" ({ cls := "ShellBeachModel", name := "fit", desc := "(II)I" } : Jvm.MethodName) ({ cls := "ShellBeachModel", name := "fit", desc := "(II)I" } : Jvm.MethodName)) ∈ lw_all := lw_g (lw_at lw_m7 10 rfl) rfl
theorem q1536 : (Jvm.Cond.code ({ cls := "ShellBeachModel", name := "fit", desc := "(II)I" } : Jvm.MethodName) prog_22_method_22_code (3 : Nat) (Option.some Jvm.ClassFile.FieldType.int)) ∈ lw_all := lw_g (lw_at lw_m7 11 rfl) rfl
theorem q1538 : (Jvm.Cond.instanceMethod ({ cls := "ShellBeachModel", name := "end", desc := "(II)I" } : Jvm.MethodName)) ∈ lw_all := lw_g (lw_at lw_m7 13 rfl) rfl
theorem q1539 : (Jvm.Cond.selects "ShellBeachModel" ({ cls := "ShellBeachModel", name := "end", desc := "(II)I" } : Jvm.MethodName) ({ cls := "ShellBeachModel", name := "end", desc := "(II)I" } : Jvm.MethodName)) ∈ lw_all := lw_g (lw_at lw_m7 14 rfl) rfl
theorem q1540 : (Jvm.Cond.code ({ cls := "ShellBeachModel", name := "end", desc := "(II)I" } : Jvm.MethodName) prog_22_method_24_code (5 : Nat) (Option.some Jvm.ClassFile.FieldType.int)) ∈ lw_all := lw_g (lw_at lw_m7 15 rfl) rfl
theorem q1542 : (Jvm.Cond.instanceMethod ({ cls := "ShellBeachModel", name := "eat", desc := "(I)I" } : Jvm.MethodName)) ∈ lw_all := lw_g (lw_at lw_m7 17 rfl) rfl
theorem q1543 : (Jvm.Cond.selects "ShellBeachModel" ({ cls := "ShellBeachModel", name := "eat", desc := "(I)I" } : Jvm.MethodName) ({ cls := "ShellBeachModel", name := "eat", desc := "(I)I" } : Jvm.MethodName)) ∈ lw_all := lw_g (lw_at lw_m7 18 rfl) rfl
theorem q1544 : (Jvm.Cond.code ({ cls := "ShellBeachModel", name := "eat", desc := "(I)I" } : Jvm.MethodName) prog_22_method_25_code (4 : Nat) (Option.some Jvm.ClassFile.FieldType.int)) ∈ lw_all := lw_g (lw_at lw_m7 19 rfl) rfl
theorem q1545 : (Jvm.Cond.methodLink "ShellBeachModel" (118 : Nat) ({ cls := "ShellBeachModel", name := "lies", desc := "(I)V" } : Jvm.MethodName)) ∈ lw_all := lw_g (lw_at lw_m7 20 rfl) rfl
theorem q1546 : (Jvm.Cond.privateMethod ({ cls := "ShellBeachModel", name := "lies", desc := "(I)V" } : Jvm.MethodName)) ∈ lw_tbl := lw_at lw_m7 21 rfl
theorem q1547 : (Jvm.Cond.instanceMethod ({ cls := "ShellBeachModel", name := "lies", desc := "(I)V" } : Jvm.MethodName)) ∈ lw_all := lw_g (lw_at lw_m7 22 rfl) rfl
theorem q1548 : (Jvm.Cond.code ({ cls := "ShellBeachModel", name := "lies", desc := "(I)V" } : Jvm.MethodName) prog_22_method_23_code (2 : Nat) (Option.none : Option Jvm.ClassFile.FieldType)) ∈ lw_all := lw_g (lw_at lw_m7 23 rfl) rfl
theorem q1550 : (Jvm.Cond.instanceMethod ({ cls := "ShellBeachModel", name := "feed", desc := "(JI)I" } : Jvm.MethodName)) ∈ lw_all := lw_g (lw_at lw_m7 25 rfl) rfl
theorem q1551 : (Jvm.Cond.selects "ShellBeachModel" ({ cls := "ShellBeachModel", name := "feed", desc := "(JI)I" } : Jvm.MethodName) ({ cls := "ShellBeachModel", name := "feed", desc := "(JI)I" } : Jvm.MethodName)) ∈ lw_all := lw_g (lw_at lw_m7 26 rfl) rfl
theorem q1552 : (Jvm.Cond.code ({ cls := "ShellBeachModel", name := "feed", desc := "(JI)I" } : Jvm.MethodName) prog_22_method_26_code (5 : Nat) (Option.some Jvm.ClassFile.FieldType.int)) ∈ lw_all := lw_g (lw_at lw_m7 27 rfl) rfl
theorem q1553 : (Jvm.Cond.constantLong "ShellBeachModel" (125 : Nat) (255 : Int64)) ∈ lw_all := lw_g (lw_at lw_m7 28 rfl) rfl
theorem q1555 : (Jvm.Cond.instanceMethod ({ cls := "ShellBeachModel", name := "text", desc := "()I" } : Jvm.MethodName)) ∈ lw_all := lw_g (lw_at lw_m7 30 rfl) rfl
theorem q1556 : (Jvm.Cond.selects "ShellBeachModel" ({ cls := "ShellBeachModel", name := "text", desc := "()I" } : Jvm.MethodName) ({ cls := "ShellBeachModel", name := "text", desc := "()I" } : Jvm.MethodName)) ∈ lw_all := lw_g (lw_at lw_m7 31 rfl) rfl
theorem q1557 : (Jvm.Cond.code ({ cls := "ShellBeachModel", name := "text", desc := "()I" } : Jvm.MethodName) prog_22_method_40_code (2 : Nat) (Option.some Jvm.ClassFile.FieldType.int)) ∈ lw_all := lw_g (lw_at lw_m7 32 rfl) rfl
theorem q1558 : (Jvm.Cond.methodLink "ShellBeachModel" (195 : Nat) ({ cls := "ShellBeachModel", name := "readsIn", desc := "(I)V" } : Jvm.MethodName)) ∈ lw_all := lw_g (lw_at lw_m7 33 rfl) rfl
theorem q1559 : (Jvm.Cond.privateMethod ({ cls := "ShellBeachModel", name := "readsIn", desc := "(I)V" } : Jvm.MethodName)) ∈ lw_tbl := lw_at lw_m7 34 rfl
theorem q1560 : (Jvm.Cond.instanceMethod ({ cls := "ShellBeachModel", name := "readsIn", desc := "(I)V" } : Jvm.MethodName)) ∈ lw_all := lw_g (lw_at lw_m7 35 rfl) rfl
theorem q1561 : (Jvm.Cond.code ({ cls := "ShellBeachModel", name := "readsIn", desc := "(I)V" } : Jvm.MethodName) prog_22_method_37_code (5 : Nat) (Option.none : Option Jvm.ClassFile.FieldType)) ∈ lw_all := lw_g (lw_at lw_m7 36 rfl) rfl
theorem q1562 : (Jvm.Cond.methodLink "ShellBeachModel" (186 : Nat) ({ cls := "ShellBeachModel", name := "word", desc := "()I" } : Jvm.MethodName)) ∈ lw_all := lw_g (lw_at lw_m7 37 rfl) rfl
theorem q1563 : (Jvm.Cond.privateMethod ({ cls := "ShellBeachModel", name := "word", desc := "()I" } : Jvm.MethodName)) ∈ lw_tbl := lw_at lw_m7 38 rfl
theorem q1564 : (Jvm.Cond.instanceMethod ({ cls := "ShellBeachModel", name := "word", desc := "()I" } : Jvm.MethodName)) ∈ lw_all := lw_g (lw_at lw_m7 39 rfl) rfl
theorem q1565 : (Jvm.Cond.code ({ cls := "ShellBeachModel", name := "word", desc := "()I" } : Jvm.MethodName) prog_22_method_36_code (1 : Nat) (Option.some Jvm.ClassFile.FieldType.int)) ∈ lw_all := lw_g (lw_at lw_m7 40 rfl) rfl
theorem q1566 : (Jvm.Cond.methodLink "ShellBeachModel" (137 : Nat) ({ cls := "ShellBeachModel", name := "here", desc := "()I" } : Jvm.MethodName)) ∈ lw_all := lw_g (lw_at lw_m7 41 rfl) rfl
theorem q1567 : (Jvm.Cond.privateMethod ({ cls := "ShellBeachModel", name := "here", desc := "()I" } : Jvm.MethodName)) ∈ lw_tbl := lw_at lw_m7 42 rfl
theorem q1568 : (Jvm.Cond.instanceMethod ({ cls := "ShellBeachModel", name := "here", desc := "()I" } : Jvm.MethodName)) ∈ lw_all := lw_g (lw_at lw_m7 43 rfl) rfl
theorem q1569 : (Jvm.Cond.code ({ cls := "ShellBeachModel", name := "here", desc := "()I" } : Jvm.MethodName) prog_22_method_27_code (1 : Nat) (Option.some Jvm.ClassFile.FieldType.int)) ∈ lw_all := lw_g (lw_at lw_m7 44 rfl) rfl
theorem q1570 : (Jvm.Cond.stringRef "ShellBeachModel" (174 : Nat) "take ") ∈ lw_tbl := lw_at lw_m7 45 rfl
theorem q1571 : (Jvm.Cond.methodLink "ShellBeachModel" (176 : Nat) ({ cls := "ShellBeachModel", name := "spells", desc := "(Ljava/lang/String;)V" } : Jvm.MethodName)) ∈ lw_all := lw_g (lw_at lw_m7 46 rfl) rfl
theorem q1572 : (Jvm.Cond.privateMethod ({ cls := "ShellBeachModel", name := "spells", desc := "(Ljava/lang/String;)V" } : Jvm.MethodName)) ∈ lw_tbl := lw_at lw_m7 47 rfl
theorem q1573 : (Jvm.Cond.instanceMethod ({ cls := "ShellBeachModel", name := "spells", desc := "(Ljava/lang/String;)V" } : Jvm.MethodName)) ∈ lw_all := lw_g (lw_at lw_m7 48 rfl) rfl
theorem q1574 : (Jvm.Cond.code ({ cls := "ShellBeachModel", name := "spells", desc := "(Ljava/lang/String;)V" } : Jvm.MethodName) prog_22_method_29_code (3 : Nat) (Option.none : Option Jvm.ClassFile.FieldType)) ∈ lw_all := lw_g (lw_at lw_m7 49 rfl) rfl
theorem q1575 : (Jvm.Cond.methodLink "ShellBeachModel" (141 : Nat) ({ cls := "java/lang/String", name := "length", desc := "()I" } : Jvm.MethodName)) ∈ lw_all := lw_g (lw_at lw_m7 50 rfl) rfl
theorem q1585 : (Jvm.Cond.methodLink "ShellBeachModel" (146 : Nat) ({ cls := "java/lang/String", name := "charAt", desc := "(I)C" } : Jvm.MethodName)) ∈ lw_all := lw_g (lw_at lw_m7 60 rfl) rfl
theorem q1621 : (Jvm.Cond.methodLink "ShellBeachModel" (150 : Nat) ({ cls := "ShellBeachModel", name := "must", desc := "(I)V" } : Jvm.MethodName)) ∈ lw_all := lw_g (lw_at lw_m7 96 rfl) rfl
theorem q1622 : (Jvm.Cond.privateMethod ({ cls := "ShellBeachModel", name := "must", desc := "(I)V" } : Jvm.MethodName)) ∈ lw_tbl := lw_at lw_m7 97 rfl
theorem q1623 : (Jvm.Cond.instanceMethod ({ cls := "ShellBeachModel", name := "must", desc := "(I)V" } : Jvm.MethodName)) ∈ lw_all := lw_g (lw_at lw_m7 98 rfl) rfl
theorem q1624 : (Jvm.Cond.code ({ cls := "ShellBeachModel", name := "must", desc := "(I)V" } : Jvm.MethodName) prog_22_method_28_code (2 : Nat) (Option.none : Option Jvm.ClassFile.FieldType)) ∈ lw_all := lw_g (lw_at lw_m7 99 rfl) rfl
theorem q1625 : (Jvm.Cond.stringRef "ShellBeachModel" (180 : Nat) "knock ") ∈ lw_tbl := lw_at lw_m7 100 rfl
theorem q1626 : (Jvm.Cond.stringRef "ShellBeachModel" (182 : Nat) "give ") ∈ lw_tbl := lw_at lw_m7 101 rfl
theorem q1627 : (Jvm.Cond.stringRef "ShellBeachModel" (184 : Nat) "wait ") ∈ lw_tbl := lw_at lw_m7 102 rfl
theorem q1628 : (Jvm.Cond.methodLink "ShellBeachModel" (162 : Nat) ({ cls := "ShellBeachModel", name := "some", desc := "()V" } : Jvm.MethodName)) ∈ lw_all := lw_g (lw_at lw_m7 103 rfl) rfl
theorem q1629 : (Jvm.Cond.privateMethod ({ cls := "ShellBeachModel", name := "some", desc := "()V" } : Jvm.MethodName)) ∈ lw_tbl := lw_at lw_m7 104 rfl
theorem q1630 : (Jvm.Cond.instanceMethod ({ cls := "ShellBeachModel", name := "some", desc := "()V" } : Jvm.MethodName)) ∈ lw_all := lw_g (lw_at lw_m7 105 rfl) rfl
theorem q1631 : (Jvm.Cond.code ({ cls := "ShellBeachModel", name := "some", desc := "()V" } : Jvm.MethodName) prog_22_method_35_code (1 : Nat) (Option.none : Option Jvm.ClassFile.FieldType)) ∈ lw_all := lw_g (lw_at lw_m7 106 rfl) rfl
theorem q1632 : (Jvm.Cond.methodLink "ShellBeachModel" (171 : Nat) ({ cls := "ShellBeachModel", name := "every", desc := "()V" } : Jvm.MethodName)) ∈ lw_all := lw_g (lw_at lw_m7 107 rfl) rfl
theorem q1633 : (Jvm.Cond.privateMethod ({ cls := "ShellBeachModel", name := "every", desc := "()V" } : Jvm.MethodName)) ∈ lw_tbl := lw_at lw_m7 108 rfl
theorem q1634 : (Jvm.Cond.instanceMethod ({ cls := "ShellBeachModel", name := "every", desc := "()V" } : Jvm.MethodName)) ∈ lw_all := lw_g (lw_at lw_m7 109 rfl) rfl
theorem q1635 : (Jvm.Cond.code ({ cls := "ShellBeachModel", name := "every", desc := "()V" } : Jvm.MethodName) prog_22_method_34_code (1 : Nat) (Option.none : Option Jvm.ClassFile.FieldType)) ∈ lw_all := lw_g (lw_at lw_m7 110 rfl) rfl
theorem q1636 : (Jvm.Cond.methodLink "ShellBeachModel" (156 : Nat) ({ cls := "ShellBeachModel", name := "factor", desc := "()V" } : Jvm.MethodName)) ∈ lw_all := lw_g (lw_at lw_m7 111 rfl) rfl
theorem q1637 : (Jvm.Cond.privateMethod ({ cls := "ShellBeachModel", name := "factor", desc := "()V" } : Jvm.MethodName)) ∈ lw_tbl := lw_at lw_m7 112 rfl
theorem q1638 : (Jvm.Cond.instanceMethod ({ cls := "ShellBeachModel", name := "factor", desc := "()V" } : Jvm.MethodName)) ∈ lw_all := lw_g (lw_at lw_m7 113 rfl) rfl
theorem q1639 : (Jvm.Cond.code ({ cls := "ShellBeachModel", name := "factor", desc := "()V" } : Jvm.MethodName) prog_22_method_33_code (5 : Nat) (Option.none : Option Jvm.ClassFile.FieldType)) ∈ lw_all := lw_g (lw_at lw_m7 114 rfl) rfl
theorem q1640 : (Jvm.Cond.methodLink "ShellBeachModel" (159 : Nat) ({ cls := "ShellBeachModel", name := "emits", desc := "(I)V" } : Jvm.MethodName)) ∈ lw_all := lw_g (lw_at lw_m7 115 rfl) rfl
theorem q1641 : (Jvm.Cond.privateMethod ({ cls := "ShellBeachModel", name := "emits", desc := "(I)V" } : Jvm.MethodName)) ∈ lw_tbl := lw_at lw_m7 116 rfl
theorem q1642 : (Jvm.Cond.instanceMethod ({ cls := "ShellBeachModel", name := "emits", desc := "(I)V" } : Jvm.MethodName)) ∈ lw_all := lw_g (lw_at lw_m7 117 rfl) rfl
theorem q1643 : (Jvm.Cond.code ({ cls := "ShellBeachModel", name := "emits", desc := "(I)V" } : Jvm.MethodName) prog_22_method_32_code (2 : Nat) (Option.none : Option Jvm.ClassFile.FieldType)) ∈ lw_all := lw_g (lw_at lw_m7 118 rfl) rfl
theorem q1644 : (Jvm.Cond.methodLink "ShellBeachModel" (165 : Nat) ({ cls := "ShellBeachModel", name := "letter", desc := "()I" } : Jvm.MethodName)) ∈ lw_all := lw_g (lw_at lw_m7 119 rfl) rfl
theorem q1645 : (Jvm.Cond.privateMethod ({ cls := "ShellBeachModel", name := "letter", desc := "()I" } : Jvm.MethodName)) ∈ lw_tbl := lw_at lw_m7 120 rfl
theorem q1646 : (Jvm.Cond.instanceMethod ({ cls := "ShellBeachModel", name := "letter", desc := "()I" } : Jvm.MethodName)) ∈ lw_all := lw_g (lw_at lw_m7 121 rfl) rfl
theorem q1647 : (Jvm.Cond.code ({ cls := "ShellBeachModel", name := "letter", desc := "()I" } : Jvm.MethodName) prog_22_method_31_code (1 : Nat) (Option.some Jvm.ClassFile.FieldType.int)) ∈ lw_all := lw_g (lw_at lw_m7 122 rfl) rfl
theorem q1648 : (Jvm.Cond.methodLink "ShellBeachModel" (168 : Nat) ({ cls := "ShellBeachModel", name := "number", desc := "()I" } : Jvm.MethodName)) ∈ lw_all := lw_g (lw_at lw_m7 123 rfl) rfl
theorem q1649 : (Jvm.Cond.privateMethod ({ cls := "ShellBeachModel", name := "number", desc := "()I" } : Jvm.MethodName)) ∈ lw_tbl := lw_at lw_m7 124 rfl
theorem q1650 : (Jvm.Cond.instanceMethod ({ cls := "ShellBeachModel", name := "number", desc := "()I" } : Jvm.MethodName)) ∈ lw_all := lw_g (lw_at lw_m7 125 rfl) rfl
theorem q1651 : (Jvm.Cond.code ({ cls := "ShellBeachModel", name := "number", desc := "()I" } : Jvm.MethodName) prog_22_method_30_code (3 : Nat) (Option.some Jvm.ClassFile.FieldType.int)) ∈ lw_all := lw_g (lw_at lw_m7 126 rfl) rfl
theorem q1653 : (Jvm.Cond.instanceMethod ({ cls := "ShellBeachModel", name := "holds", desc := "(IIIIIII)I" } : Jvm.MethodName)) ∈ lw_all := lw_g (lw_at lw_m7 128 rfl) rfl
theorem q1654 : (Jvm.Cond.selects "ShellBeachModel" ({ cls := "ShellBeachModel", name := "holds", desc := "(IIIIIII)I" } : Jvm.MethodName) ({ cls := "ShellBeachModel", name := "holds", desc := "(IIIIIII)I" } : Jvm.MethodName)) ∈ lw_all := lw_g (lw_at lw_m7 129 rfl) rfl
theorem q1655 : (Jvm.Cond.code ({ cls := "ShellBeachModel", name := "holds", desc := "(IIIIIII)I" } : Jvm.MethodName) prog_22_method_43_code (8 : Nat) (Option.some Jvm.ClassFile.FieldType.int)) ∈ lw_all := lw_g (lw_at lw_m7 130 rfl) rfl
theorem q1656 : (Jvm.Cond.methodLink "ShellBeachModel" (201 : Nat) ({ cls := "ShellBeachModel", name := "isThousand", desc := "(I)Z" } : Jvm.MethodName)) ∈ lw_all := lw_g (lw_at lw_m7 131 rfl) rfl
theorem q1657 : (Jvm.Cond.static ({ cls := "ShellBeachModel", name := "isThousand", desc := "(I)Z" } : Jvm.MethodName)) ∈ lw_all := lw_g (lw_at lw_m7 132 rfl) rfl
theorem q1658 : (Jvm.Cond.code ({ cls := "ShellBeachModel", name := "isThousand", desc := "(I)Z" } : Jvm.MethodName) prog_22_method_42_code (1 : Nat) (Option.some Jvm.ClassFile.FieldType.boolean)) ∈ lw_all := lw_g (lw_at lw_m7 133 rfl) rfl
theorem q1659 : (Jvm.Cond.methodLink "ShellBeachModel" (204 : Nat) ({ cls := "ShellBeachModel", name := "holdsFor", desc := "(IIIIIII)Z" } : Jvm.MethodName)) ∈ lw_all := lw_g (lw_at lw_m7 134 rfl) rfl
theorem q1660 : (Jvm.Cond.privateMethod ({ cls := "ShellBeachModel", name := "holdsFor", desc := "(IIIIIII)Z" } : Jvm.MethodName)) ∈ lw_tbl := lw_at lw_m7 135 rfl
theorem q1661 : (Jvm.Cond.instanceMethod ({ cls := "ShellBeachModel", name := "holdsFor", desc := "(IIIIIII)Z" } : Jvm.MethodName)) ∈ lw_all := lw_g (lw_at lw_m7 136 rfl) rfl
theorem q1662 : (Jvm.Cond.code ({ cls := "ShellBeachModel", name := "holdsFor", desc := "(IIIIIII)Z" } : Jvm.MethodName) prog_22_method_41_code (8 : Nat) (Option.some Jvm.ClassFile.FieldType.boolean)) ∈ lw_all := lw_g (lw_at lw_m7 137 rfl) rfl
theorem q1663 : (Jvm.Cond.methodLink "ShellBeachModel" (198 : Nat) ({ cls := "ShellBeachModel", name := "goes", desc := "(II)Z" } : Jvm.MethodName)) ∈ lw_all := lw_g (lw_at lw_m7 138 rfl) rfl
theorem q1664 : (Jvm.Cond.privateMethod ({ cls := "ShellBeachModel", name := "goes", desc := "(II)Z" } : Jvm.MethodName)) ∈ lw_tbl := lw_at lw_m7 139 rfl
theorem q1665 : (Jvm.Cond.instanceMethod ({ cls := "ShellBeachModel", name := "goes", desc := "(II)Z" } : Jvm.MethodName)) ∈ lw_all := lw_g (lw_at lw_m7 140 rfl) rfl
theorem q1666 : (Jvm.Cond.code ({ cls := "ShellBeachModel", name := "goes", desc := "(II)Z" } : Jvm.MethodName) prog_22_method_39_code (7 : Nat) (Option.some Jvm.ClassFile.FieldType.boolean)) ∈ lw_all := lw_g (lw_at lw_m7 141 rfl) rfl
theorem q1667 : (Jvm.Cond.methodLink "ShellBeachModel" (192 : Nat) ({ cls := "ShellBeachModel", name := "isSo", desc := "(II)Z" } : Jvm.MethodName)) ∈ lw_all := lw_g (lw_at lw_m7 142 rfl) rfl
theorem q1668 : (Jvm.Cond.privateMethod ({ cls := "ShellBeachModel", name := "isSo", desc := "(II)Z" } : Jvm.MethodName)) ∈ lw_tbl := lw_at lw_m7 143 rfl
theorem q1669 : (Jvm.Cond.instanceMethod ({ cls := "ShellBeachModel", name := "isSo", desc := "(II)Z" } : Jvm.MethodName)) ∈ lw_all := lw_g (lw_at lw_m7 144 rfl) rfl
theorem q1670 : (Jvm.Cond.code ({ cls := "ShellBeachModel", name := "isSo", desc := "(II)Z" } : Jvm.MethodName) prog_22_method_38_code (6 : Nat) (Option.some Jvm.ClassFile.FieldType.boolean)) ∈ lw_all := lw_g (lw_at lw_m7 145 rfl) rfl
theorem q1672 : (Jvm.Cond.instanceMethod ({ cls := "ShellBeachModel", name := "set", desc := "(II)I" } : Jvm.MethodName)) ∈ lw_all := lw_g (lw_at lw_m7 147 rfl) rfl
theorem q1673 : (Jvm.Cond.selects "ShellBeachModel" ({ cls := "ShellBeachModel", name := "set", desc := "(II)I" } : Jvm.MethodName) ({ cls := "ShellBeachModel", name := "set", desc := "(II)I" } : Jvm.MethodName)) ∈ lw_all := lw_g (lw_at lw_m7 148 rfl) rfl
theorem q1674 : (Jvm.Cond.code ({ cls := "ShellBeachModel", name := "set", desc := "(II)I" } : Jvm.MethodName) prog_22_method_44_code (4 : Nat) (Option.some Jvm.ClassFile.FieldType.int)) ∈ lw_all := lw_g (lw_at lw_m7 149 rfl) rfl
theorem q1676 : (Jvm.Cond.instanceMethod ({ cls := "ShellBeachModel", name := "tick", desc := "(I)I" } : Jvm.MethodName)) ∈ lw_all := lw_g (lw_at lw_m7 151 rfl) rfl
theorem q1677 : (Jvm.Cond.selects "ShellBeachModel" ({ cls := "ShellBeachModel", name := "tick", desc := "(I)I" } : Jvm.MethodName) ({ cls := "ShellBeachModel", name := "tick", desc := "(I)I" } : Jvm.MethodName)) ∈ lw_all := lw_g (lw_at lw_m7 152 rfl) rfl
theorem q1678 : (Jvm.Cond.code ({ cls := "ShellBeachModel", name := "tick", desc := "(I)I" } : Jvm.MethodName) prog_22_method_53_code (3 : Nat) (Option.some Jvm.ClassFile.FieldType.int)) ∈ lw_all := lw_g (lw_at lw_m7 153 rfl) rfl
theorem q1679 : (Jvm.Cond.methodLink "ShellBeachModel" (230 : Nat) ({ cls := "ShellBeachModel", name := "ticks", desc := "()V" } : Jvm.MethodName)) ∈ lw_all := lw_g (lw_at lw_m7 154 rfl) rfl
theorem q1680 : (Jvm.Cond.privateMethod ({ cls := "ShellBeachModel", name := "ticks", desc := "()V" } : Jvm.MethodName)) ∈ lw_tbl := lw_at lw_m7 155 rfl
theorem q1681 : (Jvm.Cond.instanceMethod ({ cls := "ShellBeachModel", name := "ticks", desc := "()V" } : Jvm.MethodName)) ∈ lw_all := lw_g (lw_at lw_m7 156 rfl) rfl
theorem q1682 : (Jvm.Cond.code ({ cls := "ShellBeachModel", name := "ticks", desc := "()V" } : Jvm.MethodName) prog_22_method_52_code (3 : Nat) (Option.none : Option Jvm.ClassFile.FieldType)) ∈ lw_all := lw_g (lw_at lw_m7 157 rfl) rfl
theorem q1683 : (Jvm.Cond.methodLink "ShellBeachModel" (224 : Nat) ({ cls := "ShellBeachModel", name := "bareTick", desc := "(I)V" } : Jvm.MethodName)) ∈ lw_all := lw_g (lw_at lw_m7 158 rfl) rfl
theorem q1684 : (Jvm.Cond.privateMethod ({ cls := "ShellBeachModel", name := "bareTick", desc := "(I)V" } : Jvm.MethodName)) ∈ lw_tbl := lw_at lw_m7 159 rfl
theorem q1685 : (Jvm.Cond.instanceMethod ({ cls := "ShellBeachModel", name := "bareTick", desc := "(I)V" } : Jvm.MethodName)) ∈ lw_all := lw_g (lw_at lw_m7 160 rfl) rfl
theorem q1686 : (Jvm.Cond.code ({ cls := "ShellBeachModel", name := "bareTick", desc := "(I)V" } : Jvm.MethodName) prog_22_method_47_code (3 : Nat) (Option.none : Option Jvm.ClassFile.FieldType)) ∈ lw_all := lw_g (lw_at lw_m7 161 rfl) rfl
theorem q1687 : (Jvm.Cond.methodLink "ShellBeachModel" (208 : Nat) ({ cls := "ShellBeachModel", name := "lying", desc := "(II)I" } : Jvm.MethodName)) ∈ lw_all := lw_g (lw_at lw_m7 162 rfl) rfl
theorem q1688 : (Jvm.Cond.privateMethod ({ cls := "ShellBeachModel", name := "lying", desc := "(II)I" } : Jvm.MethodName)) ∈ lw_tbl := lw_at lw_m7 163 rfl
theorem q1689 : (Jvm.Cond.instanceMethod ({ cls := "ShellBeachModel", name := "lying", desc := "(II)I" } : Jvm.MethodName)) ∈ lw_all := lw_g (lw_at lw_m7 164 rfl) rfl
theorem q1690 : (Jvm.Cond.code ({ cls := "ShellBeachModel", name := "lying", desc := "(II)I" } : Jvm.MethodName) prog_22_method_45_code (6 : Nat) (Option.some Jvm.ClassFile.FieldType.int)) ∈ lw_all := lw_g (lw_at lw_m7 165 rfl) rfl
theorem q1691 : (Jvm.Cond.methodLink "ShellBeachModel" (211 : Nat) ({ cls := "ShellBeachModel", name := "keeps", desc := "(II)V" } : Jvm.MethodName)) ∈ lw_all := lw_g (lw_at lw_m7 166 rfl) rfl
theorem q1692 : (Jvm.Cond.privateMethod ({ cls := "ShellBeachModel", name := "keeps", desc := "(II)V" } : Jvm.MethodName)) ∈ lw_tbl := lw_at lw_m7 167 rfl
theorem q1693 : (Jvm.Cond.instanceMethod ({ cls := "ShellBeachModel", name := "keeps", desc := "(II)V" } : Jvm.MethodName)) ∈ lw_all := lw_g (lw_at lw_m7 168 rfl) rfl
theorem q1694 : (Jvm.Cond.code ({ cls := "ShellBeachModel", name := "keeps", desc := "(II)V" } : Jvm.MethodName) prog_22_method_46_code (3 : Nat) (Option.none : Option Jvm.ClassFile.FieldType)) ∈ lw_all := lw_g (lw_at lw_m7 169 rfl) rfl
theorem q1695 : (Jvm.Cond.methodLink "ShellBeachModel" (227 : Nat) ({ cls := "ShellBeachModel", name := "housedTick", desc := "(I)V" } : Jvm.MethodName)) ∈ lw_all := lw_g (lw_at lw_m7 170 rfl) rfl
theorem q1696 : (Jvm.Cond.privateMethod ({ cls := "ShellBeachModel", name := "housedTick", desc := "(I)V" } : Jvm.MethodName)) ∈ lw_tbl := lw_at lw_m7 171 rfl
theorem q1697 : (Jvm.Cond.instanceMethod ({ cls := "ShellBeachModel", name := "housedTick", desc := "(I)V" } : Jvm.MethodName)) ∈ lw_all := lw_g (lw_at lw_m7 172 rfl) rfl
theorem q1698 : (Jvm.Cond.code ({ cls := "ShellBeachModel", name := "housedTick", desc := "(I)V" } : Jvm.MethodName) prog_22_method_51_code (6 : Nat) (Option.none : Option Jvm.ClassFile.FieldType)) ∈ lw_all := lw_g (lw_at lw_m7 173 rfl) rfl
theorem q1699 : (Jvm.Cond.methodLink "ShellBeachModel" (214 : Nat) ({ cls := "ShellBeachModel", name := "asks", desc := "(IIIII)Z" } : Jvm.MethodName)) ∈ lw_all := lw_g (lw_at lw_m7 174 rfl) rfl
theorem q1700 : (Jvm.Cond.privateMethod ({ cls := "ShellBeachModel", name := "asks", desc := "(IIIII)Z" } : Jvm.MethodName)) ∈ lw_tbl := lw_at lw_m7 175 rfl
theorem q1701 : (Jvm.Cond.instanceMethod ({ cls := "ShellBeachModel", name := "asks", desc := "(IIIII)Z" } : Jvm.MethodName)) ∈ lw_all := lw_g (lw_at lw_m7 176 rfl) rfl
theorem q1702 : (Jvm.Cond.code ({ cls := "ShellBeachModel", name := "asks", desc := "(IIIII)Z" } : Jvm.MethodName) prog_22_method_49_code (6 : Nat) (Option.some Jvm.ClassFile.FieldType.boolean)) ∈ lw_all := lw_g (lw_at lw_m7 177 rfl) rfl
theorem q1703 : (Jvm.Cond.methodLink "ShellBeachModel" (218 : Nat) ({ cls := "ShellBeachModel", name := "otherOf", desc := "(I)I" } : Jvm.MethodName)) ∈ lw_all := lw_g (lw_at lw_m7 178 rfl) rfl
theorem q1704 : (Jvm.Cond.privateMethod ({ cls := "ShellBeachModel", name := "otherOf", desc := "(I)I" } : Jvm.MethodName)) ∈ lw_tbl := lw_at lw_m7 179 rfl
theorem q1705 : (Jvm.Cond.instanceMethod ({ cls := "ShellBeachModel", name := "otherOf", desc := "(I)I" } : Jvm.MethodName)) ∈ lw_all := lw_g (lw_at lw_m7 180 rfl) rfl
theorem q1706 : (Jvm.Cond.code ({ cls := "ShellBeachModel", name := "otherOf", desc := "(I)I" } : Jvm.MethodName) prog_22_method_48_code (5 : Nat) (Option.some Jvm.ClassFile.FieldType.int)) ∈ lw_all := lw_g (lw_at lw_m7 181 rfl) rfl
theorem q1707 : (Jvm.Cond.methodLink "ShellBeachModel" (221 : Nat) ({ cls := "ShellBeachModel", name := "knocks", desc := "(II)V" } : Jvm.MethodName)) ∈ lw_all := lw_g (lw_at lw_m7 182 rfl) rfl
theorem q1708 : (Jvm.Cond.privateMethod ({ cls := "ShellBeachModel", name := "knocks", desc := "(II)V" } : Jvm.MethodName)) ∈ lw_tbl := lw_at lw_m7 183 rfl
theorem q1709 : (Jvm.Cond.instanceMethod ({ cls := "ShellBeachModel", name := "knocks", desc := "(II)V" } : Jvm.MethodName)) ∈ lw_all := lw_g (lw_at lw_m7 184 rfl) rfl
theorem q1710 : (Jvm.Cond.code ({ cls := "ShellBeachModel", name := "knocks", desc := "(II)V" } : Jvm.MethodName) prog_22_method_50_code (6 : Nat) (Option.none : Option Jvm.ClassFile.FieldType)) ∈ lw_all := lw_g (lw_at lw_m7 185 rfl) rfl
theorem q1712 : (Jvm.Cond.instanceMethod ({ cls := "ShellBeachModel", name := "row", desc := "(II)I" } : Jvm.MethodName)) ∈ lw_all := lw_g (lw_at lw_m7 187 rfl) rfl
theorem q1713 : (Jvm.Cond.selects "ShellBeachModel" ({ cls := "ShellBeachModel", name := "row", desc := "(II)I" } : Jvm.MethodName) ({ cls := "ShellBeachModel", name := "row", desc := "(II)I" } : Jvm.MethodName)) ∈ lw_all := lw_g (lw_at lw_m7 188 rfl) rfl
theorem q1714 : (Jvm.Cond.code ({ cls := "ShellBeachModel", name := "row", desc := "(II)I" } : Jvm.MethodName) prog_22_method_54_code (8 : Nat) (Option.some Jvm.ClassFile.FieldType.int)) ∈ lw_all := lw_g (lw_at lw_m7 189 rfl) rfl
theorem q1716 : (Jvm.Cond.instanceMethod ({ cls := "ShellBeachModel", name := "exchanges", desc := "(I)I" } : Jvm.MethodName)) ∈ lw_all := lw_g (lw_at lw_m7 191 rfl) rfl
theorem q1717 : (Jvm.Cond.selects "ShellBeachModel" ({ cls := "ShellBeachModel", name := "exchanges", desc := "(I)I" } : Jvm.MethodName) ({ cls := "ShellBeachModel", name := "exchanges", desc := "(I)I" } : Jvm.MethodName)) ∈ lw_all := lw_g (lw_at lw_m7 192 rfl) rfl
theorem q1718 : (Jvm.Cond.code ({ cls := "ShellBeachModel", name := "exchanges", desc := "(I)I" } : Jvm.MethodName) prog_22_method_55_code (2 : Nat) (Option.some Jvm.ClassFile.FieldType.int)) ∈ lw_all := lw_g (lw_at lw_m7 193 rfl) rfl
theorem q1720 : (Jvm.Cond.instanceMethod ({ cls := "ShellBeachModel", name := "points", desc := "()I" } : Jvm.MethodName)) ∈ lw_all := lw_g (lw_at lw_m7 195 rfl) rfl
theorem q1721 : (Jvm.Cond.selects "ShellBeachModel" ({ cls := "ShellBeachModel", name := "points", desc := "()I" } : Jvm.MethodName) ({ cls := "ShellBeachModel", name := "points", desc := "()I" } : Jvm.MethodName)) ∈ lw_all := lw_g (lw_at lw_m7 196 rfl) rfl
theorem q1722 : (Jvm.Cond.code ({ cls := "ShellBeachModel", name := "points", desc := "()I" } : Jvm.MethodName) prog_22_method_56_code (3 : Nat) (Option.some Jvm.ClassFile.FieldType.int)) ∈ lw_all := lw_g (lw_at lw_m7 197 rfl) rfl
theorem q1724 : (Jvm.Cond.instanceMethod ({ cls := "ShellBeachModel", name := "chain", desc := "(II)I" } : Jvm.MethodName)) ∈ lw_all := lw_g (lw_at lw_m7 199 rfl) rfl
theorem q1725 : (Jvm.Cond.selects "ShellBeachModel" ({ cls := "ShellBeachModel", name := "chain", desc := "(II)I" } : Jvm.MethodName) ({ cls := "ShellBeachModel", name := "chain", desc := "(II)I" } : Jvm.MethodName)) ∈ lw_all := lw_g (lw_at lw_m7 200 rfl) rfl
theorem q1726 : (Jvm.Cond.code ({ cls := "ShellBeachModel", name := "chain", desc := "(II)I" } : Jvm.MethodName) prog_22_method_58_code (3 : Nat) (Option.some Jvm.ClassFile.FieldType.int)) ∈ lw_all := lw_g (lw_at lw_m7 201 rfl) rfl
theorem q1727 : (Jvm.Cond.methodLink "ShellBeachModel" (242 : Nat) ({ cls := "ShellBeachModel", name := "chains", desc := "(IIII)V" } : Jvm.MethodName)) ∈ lw_all := lw_g (lw_at lw_m7 202 rfl) rfl
theorem q1728 : (Jvm.Cond.privateMethod ({ cls := "ShellBeachModel", name := "chains", desc := "(IIII)V" } : Jvm.MethodName)) ∈ lw_tbl := lw_at lw_m7 203 rfl
theorem q1729 : (Jvm.Cond.instanceMethod ({ cls := "ShellBeachModel", name := "chains", desc := "(IIII)V" } : Jvm.MethodName)) ∈ lw_all := lw_g (lw_at lw_m7 204 rfl) rfl
theorem q1730 : (Jvm.Cond.code ({ cls := "ShellBeachModel", name := "chains", desc := "(IIII)V" } : Jvm.MethodName) prog_22_method_57_code (14 : Nat) (Option.none : Option Jvm.ClassFile.FieldType)) ∈ lw_all := lw_g (lw_at lw_m7 205 rfl) rfl
theorem q1732 : (Jvm.Cond.instanceMethod ({ cls := "ShellBeachModel", name := "value", desc := "(I)I" } : Jvm.MethodName)) ∈ lw_all := lw_g (lw_at lw_m7 207 rfl) rfl
theorem q1733 : (Jvm.Cond.selects "ShellBeachModel" ({ cls := "ShellBeachModel", name := "value", desc := "(I)I" } : Jvm.MethodName) ({ cls := "ShellBeachModel", name := "value", desc := "(I)I" } : Jvm.MethodName)) ∈ lw_all := lw_g (lw_at lw_m7 208 rfl) rfl
theorem q1734 : (Jvm.Cond.code ({ cls := "ShellBeachModel", name := "value", desc := "(I)I" } : Jvm.MethodName) prog_22_method_60_code (2 : Nat) (Option.some Jvm.ClassFile.FieldType.int)) ∈ lw_all := lw_g (lw_at lw_m7 209 rfl) rfl
theorem q1735 : (Jvm.Cond.methodLink "ShellBeachModel" (246 : Nat) ({ cls := "ShellBeachModel", name := "valueOf", desc := "(I)I" } : Jvm.MethodName)) ∈ lw_all := lw_g (lw_at lw_m7 210 rfl) rfl
theorem q1736 : (Jvm.Cond.privateMethod ({ cls := "ShellBeachModel", name := "valueOf", desc := "(I)I" } : Jvm.MethodName)) ∈ lw_tbl := lw_at lw_m7 211 rfl
theorem q1737 : (Jvm.Cond.instanceMethod ({ cls := "ShellBeachModel", name := "valueOf", desc := "(I)I" } : Jvm.MethodName)) ∈ lw_all := lw_g (lw_at lw_m7 212 rfl) rfl
theorem q1738 : (Jvm.Cond.code ({ cls := "ShellBeachModel", name := "valueOf", desc := "(I)I" } : Jvm.MethodName) prog_22_method_59_code (2 : Nat) (Option.some Jvm.ClassFile.FieldType.int)) ∈ lw_all := lw_g (lw_at lw_m7 213 rfl) rfl
theorem q1740 : (Jvm.Cond.instanceMethod ({ cls := "ShellBeachModel", name := "first", desc := "()I" } : Jvm.MethodName)) ∈ lw_all := lw_g (lw_at lw_m7 215 rfl) rfl
theorem q1741 : (Jvm.Cond.selects "ShellBeachModel" ({ cls := "ShellBeachModel", name := "first", desc := "()I" } : Jvm.MethodName) ({ cls := "ShellBeachModel", name := "first", desc := "()I" } : Jvm.MethodName)) ∈ lw_all := lw_g (lw_at lw_m7 216 rfl) rfl
theorem q1742 : (Jvm.Cond.code ({ cls := "ShellBeachModel", name := "first", desc := "()I" } : Jvm.MethodName) prog_22_method_61_code (5 : Nat) (Option.some Jvm.ClassFile.FieldType.int)) ∈ lw_all := lw_g (lw_at lw_m7 217 rfl) rfl
theorem q1744 : (Jvm.Cond.instanceMethod ({ cls := "ShellBeachModel", name := "best", desc := "(II)I" } : Jvm.MethodName)) ∈ lw_all := lw_g (lw_at lw_m7 219 rfl) rfl
theorem q1745 : (Jvm.Cond.selects "ShellBeachModel" ({ cls := "ShellBeachModel", name := "best", desc := "(II)I" } : Jvm.MethodName) ({ cls := "ShellBeachModel", name := "best", desc := "(II)I" } : Jvm.MethodName)) ∈ lw_all := lw_g (lw_at lw_m7 220 rfl) rfl
theorem q1746 : (Jvm.Cond.code ({ cls := "ShellBeachModel", name := "best", desc := "(II)I" } : Jvm.MethodName) prog_22_method_67_code (4 : Nat) (Option.some Jvm.ClassFile.FieldType.int)) ∈ lw_all := lw_g (lw_at lw_m7 221 rfl) rfl
theorem q1747 : (Jvm.Cond.methodLink "ShellBeachModel" (271 : Nat) ({ cls := "ShellBeachModel", name := "refuses", desc := "(I)I" } : Jvm.MethodName)) ∈ lw_all := lw_g (lw_at lw_m7 222 rfl) rfl
theorem q1748 : (Jvm.Cond.privateMethod ({ cls := "ShellBeachModel", name := "refuses", desc := "(I)I" } : Jvm.MethodName)) ∈ lw_tbl := lw_at lw_m7 223 rfl
theorem q1749 : (Jvm.Cond.instanceMethod ({ cls := "ShellBeachModel", name := "refuses", desc := "(I)I" } : Jvm.MethodName)) ∈ lw_all := lw_g (lw_at lw_m7 224 rfl) rfl
theorem q1750 : (Jvm.Cond.code ({ cls := "ShellBeachModel", name := "refuses", desc := "(I)I" } : Jvm.MethodName) prog_22_method_62_code (3 : Nat) (Option.some Jvm.ClassFile.FieldType.int)) ∈ lw_all := lw_g (lw_at lw_m7 225 rfl) rfl
theorem q1751 : (Jvm.Cond.methodLink "ShellBeachModel" (274 : Nat) ({ cls := "ShellBeachModel", name := "partings", desc := "()V" } : Jvm.MethodName)) ∈ lw_all := lw_g (lw_at lw_m7 226 rfl) rfl
theorem q1752 : (Jvm.Cond.privateMethod ({ cls := "ShellBeachModel", name := "partings", desc := "()V" } : Jvm.MethodName)) ∈ lw_tbl := lw_at lw_m7 227 rfl
theorem q1753 : (Jvm.Cond.instanceMethod ({ cls := "ShellBeachModel", name := "partings", desc := "()V" } : Jvm.MethodName)) ∈ lw_all := lw_g (lw_at lw_m7 228 rfl) rfl
theorem q1754 : (Jvm.Cond.code ({ cls := "ShellBeachModel", name := "partings", desc := "()V" } : Jvm.MethodName) prog_22_method_66_code (1 : Nat) (Option.none : Option Jvm.ClassFile.FieldType)) ∈ lw_all := lw_g (lw_at lw_m7 229 rfl) rfl
theorem q1755 : (Jvm.Cond.methodLink "ShellBeachModel" (268 : Nat) ({ cls := "ShellBeachModel", name := "parts", desc := "(II)V" } : Jvm.MethodName)) ∈ lw_all := lw_g (lw_at lw_m7 230 rfl) rfl
theorem q1756 : (Jvm.Cond.privateMethod ({ cls := "ShellBeachModel", name := "parts", desc := "(II)V" } : Jvm.MethodName)) ∈ lw_tbl := lw_at lw_m7 231 rfl
theorem q1757 : (Jvm.Cond.instanceMethod ({ cls := "ShellBeachModel", name := "parts", desc := "(II)V" } : Jvm.MethodName)) ∈ lw_all := lw_g (lw_at lw_m7 232 rfl) rfl
theorem q1758 : (Jvm.Cond.code ({ cls := "ShellBeachModel", name := "parts", desc := "(II)V" } : Jvm.MethodName) prog_22_method_65_code (4 : Nat) (Option.none : Option Jvm.ClassFile.FieldType)) ∈ lw_all := lw_g (lw_at lw_m7 233 rfl) rfl
theorem q1759 : (Jvm.Cond.methodLink "ShellBeachModel" (265 : Nat) ({ cls := "ShellBeachModel", name := "looksAt", desc := "()V" } : Jvm.MethodName)) ∈ lw_all := lw_g (lw_at lw_m7 234 rfl) rfl
theorem q1760 : (Jvm.Cond.privateMethod ({ cls := "ShellBeachModel", name := "looksAt", desc := "()V" } : Jvm.MethodName)) ∈ lw_tbl := lw_at lw_m7 235 rfl
theorem q1761 : (Jvm.Cond.instanceMethod ({ cls := "ShellBeachModel", name := "looksAt", desc := "()V" } : Jvm.MethodName)) ∈ lw_all := lw_g (lw_at lw_m7 236 rfl) rfl
theorem q1762 : (Jvm.Cond.code ({ cls := "ShellBeachModel", name := "looksAt", desc := "()V" } : Jvm.MethodName) prog_22_method_64_code (7 : Nat) (Option.none : Option Jvm.ClassFile.FieldType)) ∈ lw_all := lw_g (lw_at lw_m7 237 rfl) rfl
theorem q1763 : (Jvm.Cond.methodLink "ShellBeachModel" (261 : Nat) ({ cls := "ShellBeachModel", name := "isRowLess", desc := "()Z" } : Jvm.MethodName)) ∈ lw_all := lw_g (lw_at lw_m7 238 rfl) rfl
theorem q1764 : (Jvm.Cond.privateMethod ({ cls := "ShellBeachModel", name := "isRowLess", desc := "()Z" } : Jvm.MethodName)) ∈ lw_tbl := lw_at lw_m7 239 rfl
theorem q1765 : (Jvm.Cond.instanceMethod ({ cls := "ShellBeachModel", name := "isRowLess", desc := "()Z" } : Jvm.MethodName)) ∈ lw_all := lw_g (lw_at lw_m8 0 rfl) rfl
theorem q1766 : (Jvm.Cond.code ({ cls := "ShellBeachModel", name := "isRowLess", desc := "()Z" } : Jvm.MethodName) prog_22_method_63_code (2 : Nat) (Option.some Jvm.ClassFile.FieldType.boolean)) ∈ lw_all := lw_g (lw_at lw_m8 1 rfl) rfl
theorem q1768 : (Jvm.Cond.instanceMethod ({ cls := "ShellBeachModel", name := "calm", desc := "(I)I" } : Jvm.MethodName)) ∈ lw_all := lw_g (lw_at lw_m8 3 rfl) rfl
theorem q1769 : (Jvm.Cond.selects "ShellBeachModel" ({ cls := "ShellBeachModel", name := "calm", desc := "(I)I" } : Jvm.MethodName) ({ cls := "ShellBeachModel", name := "calm", desc := "(I)I" } : Jvm.MethodName)) ∈ lw_all := lw_g (lw_at lw_m8 4 rfl) rfl
theorem q1770 : (Jvm.Cond.code ({ cls := "ShellBeachModel", name := "calm", desc := "(I)I" } : Jvm.MethodName) prog_22_method_68_code (3 : Nat) (Option.some Jvm.ClassFile.FieldType.int)) ∈ lw_all := lw_g (lw_at lw_m8 5 rfl) rfl
theorem q1772 : (Jvm.Cond.instanceMethod ({ cls := "ShellBeachModel", name := "pairs", desc := "()I" } : Jvm.MethodName)) ∈ lw_all := lw_g (lw_at lw_m8 7 rfl) rfl
theorem q1773 : (Jvm.Cond.selects "ShellBeachModel" ({ cls := "ShellBeachModel", name := "pairs", desc := "()I" } : Jvm.MethodName) ({ cls := "ShellBeachModel", name := "pairs", desc := "()I" } : Jvm.MethodName)) ∈ lw_all := lw_g (lw_at lw_m8 8 rfl) rfl
theorem q1774 : (Jvm.Cond.code ({ cls := "ShellBeachModel", name := "pairs", desc := "()I" } : Jvm.MethodName) prog_22_method_69_code (5 : Nat) (Option.some Jvm.ClassFile.FieldType.int)) ∈ lw_all := lw_g (lw_at lw_m8 9 rfl) rfl
theorem q1776 : (Jvm.Cond.instanceMethod ({ cls := "ShellBeachModel", name := "film", desc := "(IIIIIII)I" } : Jvm.MethodName)) ∈ lw_all := lw_g (lw_at lw_m8 11 rfl) rfl
theorem q1777 : (Jvm.Cond.selects "ShellBeachModel" ({ cls := "ShellBeachModel", name := "film", desc := "(IIIIIII)I" } : Jvm.MethodName) ({ cls := "ShellBeachModel", name := "film", desc := "(IIIIIII)I" } : Jvm.MethodName)) ∈ lw_all := lw_g (lw_at lw_m8 12 rfl) rfl
theorem q1778 : (Jvm.Cond.code ({ cls := "ShellBeachModel", name := "film", desc := "(IIIIIII)I" } : Jvm.MethodName) prog_22_method_70_code (8 : Nat) (Option.some Jvm.ClassFile.FieldType.int)) ∈ lw_all := lw_g (lw_at lw_m8 13 rfl) rfl
theorem q1780 : (Jvm.Cond.instanceMethod ({ cls := "ShellBeachModel", name := "reads", desc := "(II)I" } : Jvm.MethodName)) ∈ lw_all := lw_g (lw_at lw_m8 15 rfl) rfl
theorem q1781 : (Jvm.Cond.selects "ShellBeachModel" ({ cls := "ShellBeachModel", name := "reads", desc := "(II)I" } : Jvm.MethodName) ({ cls := "ShellBeachModel", name := "reads", desc := "(II)I" } : Jvm.MethodName)) ∈ lw_all := lw_g (lw_at lw_m8 16 rfl) rfl
theorem q1782 : (Jvm.Cond.code ({ cls := "ShellBeachModel", name := "reads", desc := "(II)I" } : Jvm.MethodName) prog_22_method_72_code (3 : Nat) (Option.some Jvm.ClassFile.FieldType.int)) ∈ lw_all := lw_g (lw_at lw_m8 17 rfl) rfl
theorem q1783 : (Jvm.Cond.methodLink "ShellBeachModel" (280 : Nat) ({ cls := "ShellBeachModel", name := "agreeing", desc := "(II)I" } : Jvm.MethodName)) ∈ lw_all := lw_g (lw_at lw_m8 18 rfl) rfl
theorem q1784 : (Jvm.Cond.privateMethod ({ cls := "ShellBeachModel", name := "agreeing", desc := "(II)I" } : Jvm.MethodName)) ∈ lw_tbl := lw_at lw_m8 19 rfl
theorem q1785 : (Jvm.Cond.instanceMethod ({ cls := "ShellBeachModel", name := "agreeing", desc := "(II)I" } : Jvm.MethodName)) ∈ lw_all := lw_g (lw_at lw_m8 20 rfl) rfl
theorem q1786 : (Jvm.Cond.code ({ cls := "ShellBeachModel", name := "agreeing", desc := "(II)I" } : Jvm.MethodName) prog_22_method_71_code (7 : Nat) (Option.some Jvm.ClassFile.FieldType.int)) ∈ lw_all := lw_g (lw_at lw_m8 21 rfl) rfl
theorem q1788 : (Jvm.Cond.instanceMethod ({ cls := "ShellBeachModel", name := "sure", desc := "()I" } : Jvm.MethodName)) ∈ lw_all := lw_g (lw_at lw_m8 23 rfl) rfl
theorem q1789 : (Jvm.Cond.selects "ShellBeachModel" ({ cls := "ShellBeachModel", name := "sure", desc := "()I" } : Jvm.MethodName) ({ cls := "ShellBeachModel", name := "sure", desc := "()I" } : Jvm.MethodName)) ∈ lw_all := lw_g (lw_at lw_m8 24 rfl) rfl
theorem q1790 : (Jvm.Cond.code ({ cls := "ShellBeachModel", name := "sure", desc := "()I" } : Jvm.MethodName) prog_22_method_73_code (3 : Nat) (Option.some Jvm.ClassFile.FieldType.int)) ∈ lw_all := lw_g (lw_at lw_m8 25 rfl) rfl
theorem q1792 : (Jvm.Cond.instanceMethod ({ cls := "ShellBeachModel", name := "mend", desc := "(IIII)I" } : Jvm.MethodName)) ∈ lw_all := lw_g (lw_at lw_m8 27 rfl) rfl
theorem q1793 : (Jvm.Cond.selects "ShellBeachModel" ({ cls := "ShellBeachModel", name := "mend", desc := "(IIII)I" } : Jvm.MethodName) ({ cls := "ShellBeachModel", name := "mend", desc := "(IIII)I" } : Jvm.MethodName)) ∈ lw_all := lw_g (lw_at lw_m8 28 rfl) rfl
theorem q1794 : (Jvm.Cond.code ({ cls := "ShellBeachModel", name := "mend", desc := "(IIII)I" } : Jvm.MethodName) prog_22_method_76_code (9 : Nat) (Option.some Jvm.ClassFile.FieldType.int)) ∈ lw_all := lw_g (lw_at lw_m8 29 rfl) rfl
theorem q1795 : (Jvm.Cond.methodLink "ShellBeachModel" (286 : Nat) ({ cls := "ShellBeachModel", name := "pointsBehind", desc := "(IIII)I" } : Jvm.MethodName)) ∈ lw_all := lw_g (lw_at lw_m8 30 rfl) rfl
theorem q1796 : (Jvm.Cond.privateMethod ({ cls := "ShellBeachModel", name := "pointsBehind", desc := "(IIII)I" } : Jvm.MethodName)) ∈ lw_tbl := lw_at lw_m8 31 rfl
theorem q1797 : (Jvm.Cond.instanceMethod ({ cls := "ShellBeachModel", name := "pointsBehind", desc := "(IIII)I" } : Jvm.MethodName)) ∈ lw_all := lw_g (lw_at lw_m8 32 rfl) rfl
theorem q1798 : (Jvm.Cond.code ({ cls := "ShellBeachModel", name := "pointsBehind", desc := "(IIII)I" } : Jvm.MethodName) prog_22_method_74_code (7 : Nat) (Option.some Jvm.ClassFile.FieldType.int)) ∈ lw_all := lw_g (lw_at lw_m8 33 rfl) rfl
theorem q1799 : (Jvm.Cond.methodLink "ShellBeachModel" (283 : Nat) ({ cls := "ShellBeachModel", name := "points", desc := "()I" } : Jvm.MethodName)) ∈ lw_all := lw_g (lw_at lw_m8 34 rfl) rfl
theorem q1800 : (Jvm.Cond.methodLink "ShellBeachModel" (289 : Nat) ({ cls := "ShellBeachModel", name := "numberOf", desc := "(II)I" } : Jvm.MethodName)) ∈ lw_all := lw_g (lw_at lw_m8 35 rfl) rfl
theorem q1801 : (Jvm.Cond.privateMethod ({ cls := "ShellBeachModel", name := "numberOf", desc := "(II)I" } : Jvm.MethodName)) ∈ lw_tbl := lw_at lw_m8 36 rfl
theorem q1802 : (Jvm.Cond.instanceMethod ({ cls := "ShellBeachModel", name := "numberOf", desc := "(II)I" } : Jvm.MethodName)) ∈ lw_all := lw_g (lw_at lw_m8 37 rfl) rfl
theorem q1803 : (Jvm.Cond.code ({ cls := "ShellBeachModel", name := "numberOf", desc := "(II)I" } : Jvm.MethodName) prog_22_method_75_code (5 : Nat) (Option.some Jvm.ClassFile.FieldType.int)) ∈ lw_all := lw_g (lw_at lw_m8 38 rfl) rfl
theorem q1805 : (Jvm.Cond.instanceMethod ({ cls := "ShellBeachModel", name := "act", desc := "(III)I" } : Jvm.MethodName)) ∈ lw_all := lw_g (lw_at lw_m8 40 rfl) rfl
theorem q1806 : (Jvm.Cond.selects "ShellBeachModel" ({ cls := "ShellBeachModel", name := "act", desc := "(III)I" } : Jvm.MethodName) ({ cls := "ShellBeachModel", name := "act", desc := "(III)I" } : Jvm.MethodName)) ∈ lw_all := lw_g (lw_at lw_m8 41 rfl) rfl
theorem q1807 : (Jvm.Cond.code ({ cls := "ShellBeachModel", name := "act", desc := "(III)I" } : Jvm.MethodName) prog_22_method_86_code (4 : Nat) (Option.some Jvm.ClassFile.FieldType.int)) ∈ lw_all := lw_g (lw_at lw_m8 42 rfl) rfl
theorem q1808 : (Jvm.Cond.methodLink "ShellBeachModel" (310 : Nat) ({ cls := "ShellBeachModel", name := "fits", desc := "(I)I" } : Jvm.MethodName)) ∈ lw_all := lw_g (lw_at lw_m8 43 rfl) rfl
theorem q1809 : (Jvm.Cond.privateMethod ({ cls := "ShellBeachModel", name := "fits", desc := "(I)I" } : Jvm.MethodName)) ∈ lw_tbl := lw_at lw_m8 44 rfl
theorem q1810 : (Jvm.Cond.instanceMethod ({ cls := "ShellBeachModel", name := "fits", desc := "(I)I" } : Jvm.MethodName)) ∈ lw_all := lw_g (lw_at lw_m8 45 rfl) rfl
theorem q1811 : (Jvm.Cond.code ({ cls := "ShellBeachModel", name := "fits", desc := "(I)I" } : Jvm.MethodName) prog_22_method_80_code (2 : Nat) (Option.some Jvm.ClassFile.FieldType.int)) ∈ lw_all := lw_g (lw_at lw_m8 46 rfl) rfl
theorem q1812 : (Jvm.Cond.methodLink "ShellBeachModel" (295 : Nat) ({ cls := "ShellBeachModel", name := "runs", desc := "(I)V" } : Jvm.MethodName)) ∈ lw_all := lw_g (lw_at lw_m8 47 rfl) rfl
theorem q1813 : (Jvm.Cond.privateMethod ({ cls := "ShellBeachModel", name := "runs", desc := "(I)V" } : Jvm.MethodName)) ∈ lw_tbl := lw_at lw_m8 48 rfl
theorem q1814 : (Jvm.Cond.instanceMethod ({ cls := "ShellBeachModel", name := "runs", desc := "(I)V" } : Jvm.MethodName)) ∈ lw_all := lw_g (lw_at lw_m8 49 rfl) rfl
theorem q1815 : (Jvm.Cond.code ({ cls := "ShellBeachModel", name := "runs", desc := "(I)V" } : Jvm.MethodName) prog_22_method_77_code (2 : Nat) (Option.none : Option Jvm.ClassFile.FieldType)) ∈ lw_all := lw_g (lw_at lw_m8 50 rfl) rfl
theorem q1816 : (Jvm.Cond.methodLink "ShellBeachModel" (304 : Nat) ({ cls := "ShellBeachModel", name := "plainFits", desc := "(I)I" } : Jvm.MethodName)) ∈ lw_all := lw_g (lw_at lw_m8 51 rfl) rfl
theorem q1817 : (Jvm.Cond.privateMethod ({ cls := "ShellBeachModel", name := "plainFits", desc := "(I)I" } : Jvm.MethodName)) ∈ lw_tbl := lw_at lw_m8 52 rfl
theorem q1818 : (Jvm.Cond.instanceMethod ({ cls := "ShellBeachModel", name := "plainFits", desc := "(I)I" } : Jvm.MethodName)) ∈ lw_all := lw_g (lw_at lw_m8 53 rfl) rfl
theorem q1819 : (Jvm.Cond.code ({ cls := "ShellBeachModel", name := "plainFits", desc := "(I)I" } : Jvm.MethodName) prog_22_method_79_code (2 : Nat) (Option.some Jvm.ClassFile.FieldType.int)) ∈ lw_all := lw_g (lw_at lw_m8 54 rfl) rfl
theorem q1820 : (Jvm.Cond.methodLink "ShellBeachModel" (307 : Nat) ({ cls := "ShellBeachModel", name := "isUnder", desc := "(II)Z" } : Jvm.MethodName)) ∈ lw_all := lw_g (lw_at lw_m8 55 rfl) rfl
theorem q1821 : (Jvm.Cond.static ({ cls := "ShellBeachModel", name := "isUnder", desc := "(II)Z" } : Jvm.MethodName)) ∈ lw_all := lw_g (lw_at lw_m8 56 rfl) rfl
theorem q1822 : (Jvm.Cond.code ({ cls := "ShellBeachModel", name := "isUnder", desc := "(II)Z" } : Jvm.MethodName) prog_22_method_78_code (2 : Nat) (Option.some Jvm.ClassFile.FieldType.boolean)) ∈ lw_all := lw_g (lw_at lw_m8 57 rfl) rfl
theorem q1823 : (Jvm.Cond.methodLink "ShellBeachModel" (322 : Nat) ({ cls := "ShellBeachModel", name := "askedActs", desc := "(I)I" } : Jvm.MethodName)) ∈ lw_all := lw_g (lw_at lw_m8 58 rfl) rfl
theorem q1824 : (Jvm.Cond.privateMethod ({ cls := "ShellBeachModel", name := "askedActs", desc := "(I)I" } : Jvm.MethodName)) ∈ lw_tbl := lw_at lw_m8 59 rfl
theorem q1825 : (Jvm.Cond.instanceMethod ({ cls := "ShellBeachModel", name := "askedActs", desc := "(I)I" } : Jvm.MethodName)) ∈ lw_all := lw_g (lw_at lw_m8 60 rfl) rfl
theorem q1826 : (Jvm.Cond.code ({ cls := "ShellBeachModel", name := "askedActs", desc := "(I)I" } : Jvm.MethodName) prog_22_method_83_code (3 : Nat) (Option.some Jvm.ClassFile.FieldType.int)) ∈ lw_all := lw_g (lw_at lw_m8 61 rfl) rfl
theorem q1827 : (Jvm.Cond.methodLink "ShellBeachModel" (319 : Nat) ({ cls := "ShellBeachModel", name := "waitingAsks", desc := "(I)I" } : Jvm.MethodName)) ∈ lw_all := lw_g (lw_at lw_m8 62 rfl) rfl
theorem q1828 : (Jvm.Cond.privateMethod ({ cls := "ShellBeachModel", name := "waitingAsks", desc := "(I)I" } : Jvm.MethodName)) ∈ lw_tbl := lw_at lw_m8 63 rfl
theorem q1829 : (Jvm.Cond.instanceMethod ({ cls := "ShellBeachModel", name := "waitingAsks", desc := "(I)I" } : Jvm.MethodName)) ∈ lw_all := lw_g (lw_at lw_m8 64 rfl) rfl
theorem q1830 : (Jvm.Cond.code ({ cls := "ShellBeachModel", name := "waitingAsks", desc := "(I)I" } : Jvm.MethodName) prog_22_method_82_code (2 : Nat) (Option.some Jvm.ClassFile.FieldType.int)) ∈ lw_all := lw_g (lw_at lw_m8 65 rfl) rfl
theorem q1831 : (Jvm.Cond.methodLink "ShellBeachModel" (316 : Nat) ({ cls := "ShellBeachModel", name := "plainAsks", desc := "(I)I" } : Jvm.MethodName)) ∈ lw_all := lw_g (lw_at lw_m8 66 rfl) rfl
theorem q1832 : (Jvm.Cond.privateMethod ({ cls := "ShellBeachModel", name := "plainAsks", desc := "(I)I" } : Jvm.MethodName)) ∈ lw_tbl := lw_at lw_m8 67 rfl
theorem q1833 : (Jvm.Cond.instanceMethod ({ cls := "ShellBeachModel", name := "plainAsks", desc := "(I)I" } : Jvm.MethodName)) ∈ lw_all := lw_g (lw_at lw_m8 68 rfl) rfl
theorem q1834 : (Jvm.Cond.code ({ cls := "ShellBeachModel", name := "plainAsks", desc := "(I)I" } : Jvm.MethodName) prog_22_method_81_code (2 : Nat) (Option.some Jvm.ClassFile.FieldType.int)) ∈ lw_all := lw_g (lw_at lw_m8 69 rfl) rfl
theorem q1835 : (Jvm.Cond.methodLink "ShellBeachModel" (328 : Nat) ({ cls := "ShellBeachModel", name := "movesActs", desc := "(I)I" } : Jvm.MethodName)) ∈ lw_all := lw_g (lw_at lw_m8 70 rfl) rfl
theorem q1836 : (Jvm.Cond.privateMethod ({ cls := "ShellBeachModel", name := "movesActs", desc := "(I)I" } : Jvm.MethodName)) ∈ lw_tbl := lw_at lw_m8 71 rfl
theorem q1837 : (Jvm.Cond.instanceMethod ({ cls := "ShellBeachModel", name := "movesActs", desc := "(I)I" } : Jvm.MethodName)) ∈ lw_all := lw_g (lw_at lw_m8 72 rfl) rfl
theorem q1838 : (Jvm.Cond.code ({ cls := "ShellBeachModel", name := "movesActs", desc := "(I)I" } : Jvm.MethodName) prog_22_method_85_code (2 : Nat) (Option.some Jvm.ClassFile.FieldType.int)) ∈ lw_all := lw_g (lw_at lw_m8 73 rfl) rfl
theorem q1839 : (Jvm.Cond.methodLink "ShellBeachModel" (325 : Nat) ({ cls := "ShellBeachModel", name := "plainMoves", desc := "(I)I" } : Jvm.MethodName)) ∈ lw_all := lw_g (lw_at lw_m8 74 rfl) rfl
theorem q1840 : (Jvm.Cond.privateMethod ({ cls := "ShellBeachModel", name := "plainMoves", desc := "(I)I" } : Jvm.MethodName)) ∈ lw_tbl := lw_at lw_m8 75 rfl
theorem q1841 : (Jvm.Cond.instanceMethod ({ cls := "ShellBeachModel", name := "plainMoves", desc := "(I)I" } : Jvm.MethodName)) ∈ lw_all := lw_g (lw_at lw_m8 76 rfl) rfl
theorem q1842 : (Jvm.Cond.code ({ cls := "ShellBeachModel", name := "plainMoves", desc := "(I)I" } : Jvm.MethodName) prog_22_method_84_code (2 : Nat) (Option.some Jvm.ClassFile.FieldType.int)) ∈ lw_all := lw_g (lw_at lw_m8 77 rfl) rfl
theorem q1844 : (Jvm.Cond.instanceMethod ({ cls := "ShellBeachModel", name := "trace", desc := "(I)I" } : Jvm.MethodName)) ∈ lw_all := lw_g (lw_at lw_m8 79 rfl) rfl
theorem q1845 : (Jvm.Cond.selects "ShellBeachModel" ({ cls := "ShellBeachModel", name := "trace", desc := "(I)I" } : Jvm.MethodName) ({ cls := "ShellBeachModel", name := "trace", desc := "(I)I" } : Jvm.MethodName)) ∈ lw_all := lw_g (lw_at lw_m8 80 rfl) rfl
theorem q1846 : (Jvm.Cond.code ({ cls := "ShellBeachModel", name := "trace", desc := "(I)I" } : Jvm.MethodName) prog_22_method_87_code (2 : Nat) (Option.some Jvm.ClassFile.FieldType.int)) ∈ lw_all := lw_g (lw_at lw_m8 81 rfl) rfl
theorem q1848 : (Jvm.Cond.instanceMethod ({ cls := "ShellBeachModel", name := "as", desc := "(II)I" } : Jvm.MethodName)) ∈ lw_all := lw_g (lw_at lw_m8 83 rfl) rfl
theorem q1849 : (Jvm.Cond.selects "ShellBeachModel" ({ cls := "ShellBeachModel", name := "as", desc := "(II)I" } : Jvm.MethodName) ({ cls := "ShellBeachModel", name := "as", desc := "(II)I" } : Jvm.MethodName)) ∈ lw_all := lw_g (lw_at lw_m8 84 rfl) rfl
theorem q1850 : (Jvm.Cond.code ({ cls := "ShellBeachModel", name := "as", desc := "(II)I" } : Jvm.MethodName) prog_22_method_88_code (3 : Nat) (Option.some Jvm.ClassFile.FieldType.int)) ∈ lw_all := lw_g (lw_at lw_m8 85 rfl) rfl
theorem q1852 : (Jvm.Cond.instanceMethod ({ cls := "ShellBeachModel", name := "image", desc := "()I" } : Jvm.MethodName)) ∈ lw_all := lw_g (lw_at lw_m8 87 rfl) rfl
theorem q1853 : (Jvm.Cond.selects "ShellBeachModel" ({ cls := "ShellBeachModel", name := "image", desc := "()I" } : Jvm.MethodName) ({ cls := "ShellBeachModel", name := "image", desc := "()I" } : Jvm.MethodName)) ∈ lw_all := lw_g (lw_at lw_m8 88 rfl) rfl
theorem q1854 : (Jvm.Cond.code ({ cls := "ShellBeachModel", name := "image", desc := "()I" } : Jvm.MethodName) prog_22_method_89_code (2 : Nat) (Option.some Jvm.ClassFile.FieldType.int)) ∈ lw_all := lw_g (lw_at lw_m8 89 rfl) rfl
theorem q1856 : (Jvm.Cond.instanceMethod ({ cls := "ShellBeachModel", name := "undo", desc := "()I" } : Jvm.MethodName)) ∈ lw_all := lw_g (lw_at lw_m8 91 rfl) rfl
theorem q1857 : (Jvm.Cond.selects "ShellBeachModel" ({ cls := "ShellBeachModel", name := "undo", desc := "()I" } : Jvm.MethodName) ({ cls := "ShellBeachModel", name := "undo", desc := "()I" } : Jvm.MethodName)) ∈ lw_all := lw_g (lw_at lw_m8 92 rfl) rfl
theorem q1858 : (Jvm.Cond.code ({ cls := "ShellBeachModel", name := "undo", desc := "()I" } : Jvm.MethodName) prog_22_method_90_code (2 : Nat) (Option.some Jvm.ClassFile.FieldType.int)) ∈ lw_all := lw_g (lw_at lw_m8 93 rfl) rfl
theorem q1860 : (Jvm.Cond.instanceMethod ({ cls := "ShellBeachModel", name := "count", desc := "(I)I" } : Jvm.MethodName)) ∈ lw_all := lw_g (lw_at lw_m8 95 rfl) rfl
theorem q1861 : (Jvm.Cond.selects "ShellBeachModel" ({ cls := "ShellBeachModel", name := "count", desc := "(I)I" } : Jvm.MethodName) ({ cls := "ShellBeachModel", name := "count", desc := "(I)I" } : Jvm.MethodName)) ∈ lw_all := lw_g (lw_at lw_m8 96 rfl) rfl
theorem q1862 : (Jvm.Cond.code ({ cls := "ShellBeachModel", name := "count", desc := "(I)I" } : Jvm.MethodName) prog_22_method_92_code (2 : Nat) (Option.some Jvm.ClassFile.FieldType.int)) ∈ lw_all := lw_g (lw_at lw_m8 97 rfl) rfl
theorem q1863 : (Jvm.Cond.methodLink "ShellBeachModel" (334 : Nat) ({ cls := "ShellBeachModel", name := "counted", desc := "(I)I" } : Jvm.MethodName)) ∈ lw_all := lw_g (lw_at lw_m8 98 rfl) rfl
theorem q1864 : (Jvm.Cond.privateMethod ({ cls := "ShellBeachModel", name := "counted", desc := "(I)I" } : Jvm.MethodName)) ∈ lw_tbl := lw_at lw_m8 99 rfl
theorem q1865 : (Jvm.Cond.instanceMethod ({ cls := "ShellBeachModel", name := "counted", desc := "(I)I" } : Jvm.MethodName)) ∈ lw_all := lw_g (lw_at lw_m8 100 rfl) rfl
theorem q1866 : (Jvm.Cond.code ({ cls := "ShellBeachModel", name := "counted", desc := "(I)I" } : Jvm.MethodName) prog_22_method_91_code (4 : Nat) (Option.some Jvm.ClassFile.FieldType.int)) ∈ lw_all := lw_g (lw_at lw_m8 101 rfl) rfl
theorem q1880 : (Jvm.Cond.castable "ShellBeachModel" "java/lang/Object") ∈ lw_tbl := lw_at lw_m8 115 rfl
theorem in_X3 : ∀ w ∈ wsX30, w ∈ lw_all := lw_in wsX30 [1380, 1382, 1384, 1386, 1388, 1390, 1392, 1394, 1396, 1398, 1400, 1402, 1404, 1406, 1408, 1410, 1412, 1414, 1416, 1418, 1420, 1422, 1424, 1426, 1428, 1430, 1432, 1434, 1436, 1438, 1440, 1442, 1444, 1446, 1448, 1450, 1452, 1454, 1456] (by decide +kernel) (by decide +kernel)
