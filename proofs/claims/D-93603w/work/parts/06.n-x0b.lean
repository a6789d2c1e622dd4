set_option maxRecDepth 100000
theorem dX0_first_1 : decode cX0_first 1 = .ok (.istore_n 1, 1) := by decide +kernel
theorem dX0_first_2 : decode cX0_first 2 = .ok (.iconst (-1), 1) := by decide +kernel
theorem dX0_first_3 : decode cX0_first 3 = .ok (.istore_n 2, 1) := by decide +kernel
theorem dX0_first_4 : decode cX0_first 4 = .ok (.iconst 1, 1) := by decide +kernel
theorem dX0_first_5 : decode cX0_first 5 = .ok (.istore_n 3, 1) := by decide +kernel
theorem dX0_first_6 : decode cX0_first 6 = .ok (.iload_n 3, 1) := by decide +kernel
theorem dX0_first_7 : decode cX0_first 7 = .ok (.bipush 40, 2) := by decide +kernel
theorem dX0_first_9 : decode cX0_first 9 = .ok (.if_icmp .gt 30, 3) := by decide +kernel
theorem dX0_first_12 : decode cX0_first 12 = .ok (.aload_n 0, 1) := by decide +kernel
theorem dX0_first_13 : decode cX0_first 13 = .ok (.iload_n 3, 1) := by decide +kernel
theorem dX0_first_14 : decode cX0_first 14 = .ok (.invokevirtual 270, 3) := by decide +kernel
theorem dX0_first_17 : decode cX0_first 17 = .ok (.istore 4, 2) := by decide +kernel
theorem dX0_first_19 : decode cX0_first 19 = .ok (.iload 4, 2) := by decide +kernel
theorem dX0_first_21 : decode cX0_first 21 = .ok (.iload_n 2, 1) := by decide +kernel
theorem dX0_first_22 : decode cX0_first 22 = .ok (.if_icmp .gt 6, 3) := by decide +kernel
theorem dX0_first_25 : decode cX0_first 25 = .ok (.goto 8, 3) := by decide +kernel
theorem dX0_first_28 : decode cX0_first 28 = .ok (.iload 4, 2) := by decide +kernel
theorem dX0_first_30 : decode cX0_first 30 = .ok (.istore_n 2, 1) := by decide +kernel
theorem dX0_first_31 : decode cX0_first 31 = .ok (.iload_n 3, 1) := by decide +kernel
theorem dX0_first_32 : decode cX0_first 32 = .ok (.istore_n 1, 1) := by decide +kernel
theorem dX0_first_33 : decode cX0_first 33 = .ok (.iinc 3 1, 3) := by decide +kernel
theorem dX0_first_36 : decode cX0_first 36 = .ok (.goto (-30), 3) := by decide +kernel
theorem dX0_first_39 : decode cX0_first 39 = .ok (.iload_n 1, 1) := by decide +kernel
theorem dX0_first_40 : decode cX0_first 40 = .ok (.ireturn, 1) := by decide +kernel
abbrev cX0_best : ByteArray := prog_1_method_39_code
def yX0_best : MethodName := ⟨RX0, "best", "(II)I"⟩
theorem dX0_best_0 : decode cX0_best 0 = .ok (.aload_n 0, 1) := by decide +kernel
theorem dX0_best_1 : decode cX0_best 1 = .ok (.iload_n 1, 1) := by decide +kernel
theorem dX0_best_2 : decode cX0_best 2 = .ok (.invokevirtual 305, 3) := by decide +kernel
theorem dX0_best_5 : decode cX0_best 5 = .ok (.istore_n 3, 1) := by decide +kernel
theorem dX0_best_6 : decode cX0_best 6 = .ok (.iload_n 3, 1) := by decide +kernel
theorem dX0_best_7 : decode cX0_best 7 = .ok (.ifCond .eq 5, 3) := by decide +kernel
theorem dX0_best_10 : decode cX0_best 10 = .ok (.iload_n 3, 1) := by decide +kernel
theorem dX0_best_11 : decode cX0_best 11 = .ok (.ireturn, 1) := by decide +kernel
theorem dX0_best_12 : decode cX0_best 12 = .ok (.iload_n 2, 1) := by decide +kernel
theorem dX0_best_13 : decode cX0_best 13 = .ok (.iconst (-1), 1) := by decide +kernel
theorem dX0_best_14 : decode cX0_best 14 = .ok (.aload_n 0, 1) := by decide +kernel
theorem dX0_best_15 : decode cX0_best 15 = .ok (.getfield 278, 3) := by decide +kernel
theorem dX0_best_18 : decode cX0_best 18 = .ok (.iconst 1, 1) := by decide +kernel
theorem dX0_best_19 : decode cX0_best 19 = .ok (.isub, 1) := by decide +kernel
theorem dX0_best_20 : decode cX0_best 20 = .ok (.invokestatic 3, 3) := by decide +kernel
theorem dX0_best_23 : decode cX0_best 23 = .ok (.ifCond .ne 5, 3) := by decide +kernel
theorem dX0_best_26 : decode cX0_best 26 = .ok (.iconst (-1), 1) := by decide +kernel
theorem dX0_best_27 : decode cX0_best 27 = .ok (.ireturn, 1) := by decide +kernel
theorem dX0_best_28 : decode cX0_best 28 = .ok (.aload_n 0, 1) := by decide +kernel
theorem dX0_best_29 : decode cX0_best 29 = .ok (.invokevirtual 308, 3) := by decide +kernel
theorem dX0_best_32 : decode cX0_best 32 = .ok (.iload_n 2, 1) := by decide +kernel
theorem dX0_best_33 : decode cX0_best 33 = .ok (.iconst (-1), 1) := by decide +kernel
theorem dX0_best_34 : decode cX0_best 34 = .ok (.if_icmp .ne 10, 3) := by decide +kernel
theorem dX0_best_37 : decode cX0_best 37 = .ok (.aload_n 0, 1) := by decide +kernel
theorem dX0_best_38 : decode cX0_best 38 = .ok (.getfield 291, 3) := by decide +kernel
theorem dX0_best_41 : decode cX0_best 41 = .ok (.goto 12, 3) := by decide +kernel
theorem dX0_best_44 : decode cX0_best 44 = .ok (.aload_n 0, 1) := by decide +kernel
theorem dX0_best_45 : decode cX0_best 45 = .ok (.getfield 80, 3) := by decide +kernel
theorem dX0_best_48 : decode cX0_best 48 = .ok (.iload_n 2, 1) := by decide +kernel
theorem dX0_best_49 : decode cX0_best 49 = .ok (.aaload, 1) := by decide +kernel
theorem dX0_best_50 : decode cX0_best 50 = .ok (.getfield 179, 3) := by decide +kernel
theorem dX0_best_53 : decode cX0_best 53 = .ok (.ireturn, 1) := by decide +kernel
abbrev cX0_findTold : ByteArray := prog_1_method_34_code
def yX0_findTold : MethodName := ⟨RX0, "findTold", "(I)I"⟩
theorem dX0_findTold_0 : decode cX0_findTold 0 = .ok (.iload_n 1, 1) := by decide +kernel
theorem dX0_findTold_1 : decode cX0_findTold 1 = .ok (.iconst 1, 1) := by decide +kernel
theorem dX0_findTold_2 : decode cX0_findTold 2 = .ok (.iconst 1, 1) := by decide +kernel
theorem dX0_findTold_3 : decode cX0_findTold 3 = .ok (.aload_n 0, 1) := by decide +kernel
theorem dX0_findTold_4 : decode cX0_findTold 4 = .ok (.getfield 34, 3) := by decide +kernel
theorem dX0_findTold_7 : decode cX0_findTold 7 = .ok (.invokevirtual 11, 3) := by decide +kernel
theorem dX0_findTold_10 : decode cX0_findTold 10 = .ok (.ishl, 1) := by decide +kernel
theorem dX0_findTold_11 : decode cX0_findTold 11 = .ok (.iconst 1, 1) := by decide +kernel
theorem dX0_findTold_12 : decode cX0_findTold 12 = .ok (.isub, 1) := by decide +kernel
theorem dX0_findTold_13 : decode cX0_findTold 13 = .ok (.invokestatic 3, 3) := by decide +kernel
theorem dX0_findTold_16 : decode cX0_findTold 16 = .ok (.ifCond .eq 12, 3) := by decide +kernel
theorem dX0_findTold_19 : decode cX0_findTold 19 = .ok (.iload_n 1, 1) := by decide +kernel
theorem dX0_findTold_20 : decode cX0_findTold 20 = .ok (.invokestatic 273, 3) := by decide +kernel
theorem dX0_findTold_23 : decode cX0_findTold 23 = .ok (.bipush 6, 2) := by decide +kernel
theorem dX0_findTold_25 : decode cX0_findTold 25 = .ok (.if_icmp .le 6, 3) := by decide +kernel
theorem dX0_findTold_28 : decode cX0_findTold 28 = .ok (.bipush (-2), 2) := by decide +kernel
theorem dX0_findTold_30 : decode cX0_findTold 30 = .ok (.ireturn, 1) := by decide +kernel
theorem dX0_findTold_31 : decode cX0_findTold 31 = .ok (.aload_n 0, 1) := by decide +kernel
theorem dX0_findTold_32 : decode cX0_findTold 32 = .ok (.iconst 0, 1) := by decide +kernel
theorem dX0_findTold_33 : decode cX0_findTold 33 = .ok (.putfield 278, 3) := by decide +kernel
theorem dX0_findTold_36 : decode cX0_findTold 36 = .ok (.iconst 0, 1) := by decide +kernel
theorem dX0_findTold_37 : decode cX0_findTold 37 = .ok (.istore_n 2, 1) := by decide +kernel
theorem dX0_findTold_38 : decode cX0_findTold 38 = .ok (.iload_n 2, 1) := by decide +kernel
theorem dX0_findTold_39 : decode cX0_findTold 39 = .ok (.aload_n 0, 1) := by decide +kernel
theorem dX0_findTold_40 : decode cX0_findTold 40 = .ok (.getfield 34, 3) := by decide +kernel
theorem dX0_findTold_43 : decode cX0_findTold 43 = .ok (.invokevirtual 11, 3) := by decide +kernel
theorem dX0_findTold_46 : decode cX0_findTold 46 = .ok (.if_icmp .ge 67, 3) := by decide +kernel
theorem dX0_findTold_49 : decode cX0_findTold 49 = .ok (.iload_n 1, 1) := by decide +kernel
theorem dX0_findTold_50 : decode cX0_findTold 50 = .ok (.iload_n 2, 1) := by decide +kernel
theorem dX0_findTold_51 : decode cX0_findTold 51 = .ok (.ishr, 1) := by decide +kernel
theorem dX0_findTold_52 : decode cX0_findTold 52 = .ok (.iconst 1, 1) := by decide +kernel
theorem dX0_findTold_53 : decode cX0_findTold 53 = .ok (.iand, 1) := by decide +kernel
theorem dX0_findTold_54 : decode cX0_findTold 54 = .ok (.ifCond .ne 6, 3) := by decide +kernel
theorem dX0_findTold_57 : decode cX0_findTold 57 = .ok (.goto 50, 3) := by decide +kernel
theorem dX0_findTold_60 : decode cX0_findTold 60 = .ok (.aload_n 0, 1) := by decide +kernel
theorem dX0_findTold_61 : decode cX0_findTold 61 = .ok (.getfield 34, 3) := by decide +kernel
theorem dX0_findTold_64 : decode cX0_findTold 64 = .ok (.iload_n 2, 1) := by decide +kernel
theorem dX0_findTold_65 : decode cX0_findTold 65 = .ok (.invokevirtual 17, 3) := by decide +kernel
theorem dX0_findTold_68 : decode cX0_findTold 68 = .ok (.checkcast 70, 3) := by decide +kernel
theorem dX0_findTold_71 : decode cX0_findTold 71 = .ok (.invokevirtual 240, 3) := by decide +kernel
theorem dX0_findTold_74 : decode cX0_findTold 74 = .ok (.ifCond .ne 6, 3) := by decide +kernel
theorem dX0_findTold_77 : decode cX0_findTold 77 = .ok (.bipush (-3), 2) := by decide +kernel
theorem dX0_findTold_79 : decode cX0_findTold 79 = .ok (.ireturn, 1) := by decide +kernel
theorem dX0_findTold_80 : decode cX0_findTold 80 = .ok (.aload_n 0, 1) := by decide +kernel
theorem dX0_findTold_81 : decode cX0_findTold 81 = .ok (.getfield 72, 3) := by decide +kernel
theorem dX0_findTold_84 : decode cX0_findTold 84 = .ok (.aload_n 0, 1) := by decide +kernel
theorem dX0_findTold_85 : decode cX0_findTold 85 = .ok (.dup, 1) := by decide +kernel
theorem dX0_findTold_86 : decode cX0_findTold 86 = .ok (.getfield 278, 3) := by decide +kernel
theorem dX0_findTold_89 : decode cX0_findTold 89 = .ok (.dup_x1, 1) := by decide +kernel
theorem dX0_findTold_90 : decode cX0_findTold 90 = .ok (.iconst 1, 1) := by decide +kernel
theorem dX0_findTold_91 : decode cX0_findTold 91 = .ok (.iadd, 1) := by decide +kernel
theorem dX0_findTold_92 : decode cX0_findTold 92 = .ok (.putfield 278, 3) := by decide +kernel
theorem dX0_findTold_95 : decode cX0_findTold 95 = .ok (.aload_n 0, 1) := by decide +kernel
theorem dX0_findTold_96 : decode cX0_findTold 96 = .ok (.getfield 34, 3) := by decide +kernel
theorem dX0_findTold_99 : decode cX0_findTold 99 = .ok (.iload_n 2, 1) := by decide +kernel
theorem dX0_findTold_100 : decode cX0_findTold 100 = .ok (.invokevirtual 17, 3) := by decide +kernel
theorem dX0_findTold_103 : decode cX0_findTold 103 = .ok (.checkcast 70, 3) := by decide +kernel
theorem dX0_findTold_106 : decode cX0_findTold 106 = .ok (.aastore, 1) := by decide +kernel
theorem dX0_findTold_107 : decode cX0_findTold 107 = .ok (.iinc 2 1, 3) := by decide +kernel
theorem dX0_findTold_110 : decode cX0_findTold 110 = .ok (.goto (-72), 3) := by decide +kernel
theorem dX0_findTold_113 : decode cX0_findTold 113 = .ok (.iconst 0, 1) := by decide +kernel
theorem dX0_findTold_114 : decode cX0_findTold 114 = .ok (.ireturn, 1) := by decide +kernel
abbrev cX0_findPartings : ByteArray := prog_1_method_38_code
def yX0_findPartings : MethodName := ⟨RX0, "findPartings", "()V"⟩
theorem dX0_findPartings_0 : decode cX0_findPartings 0 = .ok (.aload_n 0, 1) := by decide +kernel
theorem dX0_findPartings_1 : decode cX0_findPartings 1 = .ok (.ldc_w 304, 3) := by decide +kernel
theorem dX0_findPartings_4 : decode cX0_findPartings 4 = .ok (.putfield 291, 3) := by decide +kernel
theorem dX0_findPartings_7 : decode cX0_findPartings 7 = .ok (.aload_n 0, 1) := by decide +kernel
theorem dX0_findPartings_8 : decode cX0_findPartings 8 = .ok (.iconst 0, 1) := by decide +kernel
theorem dX0_findPartings_9 : decode cX0_findPartings 9 = .ok (.putfield 285, 3) := by decide +kernel
theorem dX0_findPartings_12 : decode cX0_findPartings 12 = .ok (.aload_n 0, 1) := by decide +kernel
theorem dX0_findPartings_13 : decode cX0_findPartings 13 = .ok (.iconst 0, 1) := by decide +kernel
theorem dX0_findPartings_14 : decode cX0_findPartings 14 = .ok (.iconst 0, 1) := by decide +kernel
theorem dX0_findPartings_15 : decode cX0_findPartings 15 = .ok (.iconst 0, 1) := by decide +kernel
theorem dX0_findPartings_16 : decode cX0_findPartings 16 = .ok (.invokevirtual 300, 3) := by decide +kernel
theorem dX0_findPartings_19 : decode cX0_findPartings 19 = .ok (.return_, 1) := by decide +kernel
abbrev cX0_goThrough : ByteArray := prog_1_method_37_code
def yX0_goThrough : MethodName := ⟨RX0, "goThrough", "(III)V"⟩
theorem dX0_goThrough_0 : decode cX0_goThrough 0 = .ok (.iload_n 1, 1) := by decide +kernel
theorem dX0_goThrough_1 : decode cX0_goThrough 1 = .ok (.aload_n 0, 1) := by decide +kernel
theorem dX0_goThrough_2 : decode cX0_goThrough 2 = .ok (.getfield 278, 3) := by decide +kernel
theorem dX0_goThrough_5 : decode cX0_goThrough 5 = .ok (.if_icmp .ne 53, 3) := by decide +kernel
theorem dX0_goThrough_8 : decode cX0_goThrough 8 = .ok (.aload_n 0, 1) := by decide +kernel
theorem dX0_goThrough_9 : decode cX0_goThrough 9 = .ok (.dup, 1) := by decide +kernel
theorem dX0_goThrough_10 : decode cX0_goThrough 10 = .ok (.getfield 285, 3) := by decide +kernel
theorem dX0_goThrough_13 : decode cX0_goThrough 13 = .ok (.aload_n 0, 1) := by decide +kernel
theorem dX0_goThrough_14 : decode cX0_goThrough 14 = .ok (.invokevirtual 288, 3) := by decide +kernel
theorem dX0_goThrough_17 : decode cX0_goThrough 17 = .ok (.ifCond .eq 7, 3) := by decide +kernel
theorem dX0_goThrough_20 : decode cX0_goThrough 20 = .ok (.iconst 1, 1) := by decide +kernel
theorem dX0_goThrough_21 : decode cX0_goThrough 21 = .ok (.goto 4, 3) := by decide +kernel
theorem dX0_goThrough_24 : decode cX0_goThrough 24 = .ok (.iconst 0, 1) := by decide +kernel
theorem dX0_goThrough_25 : decode cX0_goThrough 25 = .ok (.iadd, 1) := by decide +kernel
theorem dX0_goThrough_26 : decode cX0_goThrough 26 = .ok (.putfield 285, 3) := by decide +kernel
theorem dX0_goThrough_29 : decode cX0_goThrough 29 = .ok (.iload_n 3, 1) := by decide +kernel
theorem dX0_goThrough_30 : decode cX0_goThrough 30 = .ok (.aload_n 0, 1) := by decide +kernel
theorem dX0_goThrough_31 : decode cX0_goThrough 31 = .ok (.getfield 291, 3) := by decide +kernel
theorem dX0_goThrough_34 : decode cX0_goThrough 34 = .ok (.if_icmp .gt 4, 3) := by decide +kernel
theorem dX0_goThrough_37 : decode cX0_goThrough 37 = .ok (.return_, 1) := by decide +kernel
theorem dX0_goThrough_38 : decode cX0_goThrough 38 = .ok (.aload_n 0, 1) := by decide +kernel
theorem dX0_goThrough_39 : decode cX0_goThrough 39 = .ok (.iload_n 3, 1) := by decide +kernel
theorem dX0_goThrough_40 : decode cX0_goThrough 40 = .ok (.putfield 291, 3) := by decide +kernel
theorem dX0_goThrough_43 : decode cX0_goThrough 43 = .ok (.aload_n 0, 1) := by decide +kernel
theorem dX0_goThrough_44 : decode cX0_goThrough 44 = .ok (.getfield 76, 3) := by decide +kernel
theorem dX0_goThrough_47 : decode cX0_goThrough 47 = .ok (.iconst 0, 1) := by decide +kernel
theorem dX0_goThrough_48 : decode cX0_goThrough 48 = .ok (.aload_n 0, 1) := by decide +kernel
theorem dX0_goThrough_49 : decode cX0_goThrough 49 = .ok (.getfield 80, 3) := by decide +kernel
theorem dX0_goThrough_52 : decode cX0_goThrough 52 = .ok (.iconst 0, 1) := by decide +kernel
theorem dX0_goThrough_53 : decode cX0_goThrough 53 = .ok (.iload_n 1, 1) := by decide +kernel
theorem dX0_goThrough_54 : decode cX0_goThrough 54 = .ok (.invokestatic 294, 3) := by decide +kernel
theorem dX0_goThrough_57 : decode cX0_goThrough 57 = .ok (.return_, 1) := by decide +kernel
theorem dX0_goThrough_58 : decode cX0_goThrough 58 = .ok (.iconst 0, 1) := by decide +kernel
theorem dX0_goThrough_59 : decode cX0_goThrough 59 = .ok (.istore 4, 2) := by decide +kernel
theorem dX0_goThrough_61 : decode cX0_goThrough 61 = .ok (.iload 4, 2) := by decide +kernel
theorem dX0_goThrough_63 : decode cX0_goThrough 63 = .ok (.aload_n 0, 1) := by decide +kernel
theorem dX0_goThrough_64 : decode cX0_goThrough 64 = .ok (.getfield 7, 3) := by decide +kernel
theorem dX0_goThrough_67 : decode cX0_goThrough 67 = .ok (.invokevirtual 11, 3) := by decide +kernel
theorem dX0_goThrough_70 : decode cX0_goThrough 70 = .ok (.if_icmp .ge 107, 3) := by decide +kernel
theorem dX0_goThrough_73 : decode cX0_goThrough 73 = .ok (.iconst 0, 1) := by decide +kernel
theorem dX0_goThrough_74 : decode cX0_goThrough 74 = .ok (.istore 5, 2) := by decide +kernel
theorem dX0_goThrough_76 : decode cX0_goThrough 76 = .ok (.iload 5, 2) := by decide +kernel
theorem dX0_goThrough_78 : decode cX0_goThrough 78 = .ok (.aload_n 0, 1) := by decide +kernel
theorem dX0_goThrough_79 : decode cX0_goThrough 79 = .ok (.getfield 278, 3) := by decide +kernel
theorem dX0_goThrough_82 : decode cX0_goThrough 82 = .ok (.if_icmp .ge 89, 3) := by decide +kernel
theorem dX0_goThrough_85 : decode cX0_goThrough 85 = .ok (.aload_n 0, 1) := by decide +kernel
theorem dX0_goThrough_86 : decode cX0_goThrough 86 = .ok (.getfield 72, 3) := by decide +kernel
theorem dX0_goThrough_89 : decode cX0_goThrough 89 = .ok (.iload 5, 2) := by decide +kernel
theorem dX0_goThrough_91 : decode cX0_goThrough 91 = .ok (.aaload, 1) := by decide +kernel
theorem dX0_goThrough_92 : decode cX0_goThrough 92 = .ok (.getfield 147, 3) := by decide +kernel
theorem dX0_goThrough_95 : decode cX0_goThrough 95 = .ok (.getfield 179, 3) := by decide +kernel
theorem dX0_goThrough_98 : decode cX0_goThrough 98 = .ok (.iload 4, 2) := by decide +kernel
theorem dX0_goThrough_100 : decode cX0_goThrough 100 = .ok (.if_icmp .ne 65, 3) := by decide +kernel
theorem dX0_goThrough_103 : decode cX0_goThrough 103 = .ok (.iload_n 2, 1) := by decide +kernel
theorem dX0_goThrough_104 : decode cX0_goThrough 104 = .ok (.iload 5, 2) := by decide +kernel
theorem dX0_goThrough_106 : decode cX0_goThrough 106 = .ok (.ishr, 1) := by decide +kernel
theorem dX0_goThrough_107 : decode cX0_goThrough 107 = .ok (.iconst 1, 1) := by decide +kernel
theorem dX0_goThrough_108 : decode cX0_goThrough 108 = .ok (.iand, 1) := by decide +kernel
theorem dX0_goThrough_109 : decode cX0_goThrough 109 = .ok (.iconst 1, 1) := by decide +kernel
theorem dX0_goThrough_110 : decode cX0_goThrough 110 = .ok (.if_icmp .ne 6, 3) := by decide +kernel
theorem dX0_goThrough_113 : decode cX0_goThrough 113 = .ok (.goto 52, 3) := by decide +kernel
theorem dX0_goThrough_116 : decode cX0_goThrough 116 = .ok (.aload_n 0, 1) := by decide +kernel
theorem dX0_goThrough_117 : decode cX0_goThrough 117 = .ok (.getfield 76, 3) := by decide +kernel
theorem dX0_goThrough_120 : decode cX0_goThrough 120 = .ok (.iload_n 1, 1) := by decide +kernel
theorem dX0_goThrough_121 : decode cX0_goThrough 121 = .ok (.aload_n 0, 1) := by decide +kernel
theorem dX0_goThrough_122 : decode cX0_goThrough 122 = .ok (.getfield 72, 3) := by decide +kernel
theorem dX0_goThrough_125 : decode cX0_goThrough 125 = .ok (.iload 5, 2) := by decide +kernel
theorem dX0_goThrough_127 : decode cX0_goThrough 127 = .ok (.aaload, 1) := by decide +kernel
theorem dX0_goThrough_128 : decode cX0_goThrough 128 = .ok (.getfield 147, 3) := by decide +kernel
theorem dX0_goThrough_131 : decode cX0_goThrough 131 = .ok (.aastore, 1) := by decide +kernel
theorem dX0_goThrough_132 : decode cX0_goThrough 132 = .ok (.aload_n 0, 1) := by decide +kernel
theorem dX0_goThrough_133 : decode cX0_goThrough 133 = .ok (.iload_n 1, 1) := by decide +kernel
theorem dX0_goThrough_134 : decode cX0_goThrough 134 = .ok (.iconst 1, 1) := by decide +kernel
theorem dX0_goThrough_135 : decode cX0_goThrough 135 = .ok (.iadd, 1) := by decide +kernel
theorem dX0_goThrough_136 : decode cX0_goThrough 136 = .ok (.iload_n 2, 1) := by decide +kernel
theorem dX0_goThrough_137 : decode cX0_goThrough 137 = .ok (.iconst 1, 1) := by decide +kernel
theorem dX0_goThrough_138 : decode cX0_goThrough 138 = .ok (.iload 5, 2) := by decide +kernel
theorem dX0_goThrough_140 : decode cX0_goThrough 140 = .ok (.ishl, 1) := by decide +kernel
theorem dX0_goThrough_141 : decode cX0_goThrough 141 = .ok (.ior, 1) := by decide +kernel
theorem dX0_goThrough_142 : decode cX0_goThrough 142 = .ok (.iload_n 3, 1) := by decide +kernel
theorem dX0_goThrough_143 : decode cX0_goThrough 143 = .ok (.aload_n 0, 1) := by decide +kernel
theorem dX0_goThrough_144 : decode cX0_goThrough 144 = .ok (.getfield 76, 3) := by decide +kernel
theorem dX0_goThrough_147 : decode cX0_goThrough 147 = .ok (.iload_n 1, 1) := by decide +kernel
theorem dX0_goThrough_148 : decode cX0_goThrough 148 = .ok (.aaload, 1) := by decide +kernel
theorem dX0_goThrough_149 : decode cX0_goThrough 149 = .ok (.aload_n 0, 1) := by decide +kernel
theorem dX0_goThrough_150 : decode cX0_goThrough 150 = .ok (.getfield 72, 3) := by decide +kernel
theorem dX0_goThrough_153 : decode cX0_goThrough 153 = .ok (.iload_n 1, 1) := by decide +kernel
theorem dX0_goThrough_154 : decode cX0_goThrough 154 = .ok (.aaload, 1) := by decide +kernel
theorem dX0_goThrough_155 : decode cX0_goThrough 155 = .ok (.getfield 177, 3) := by decide +kernel
theorem dX0_goThrough_158 : decode cX0_goThrough 158 = .ok (.invokevirtual 192, 3) := by decide +kernel
theorem dX0_goThrough_161 : decode cX0_goThrough 161 = .ok (.iadd, 1) := by decide +kernel
theorem dX0_goThrough_162 : decode cX0_goThrough 162 = .ok (.invokevirtual 300, 3) := by decide +kernel
theorem dX0_goThrough_165 : decode cX0_goThrough 165 = .ok (.iinc 5 1, 3) := by decide +kernel
theorem dX0_goThrough_168 : decode cX0_goThrough 168 = .ok (.goto (-92), 3) := by decide +kernel
theorem dX0_goThrough_171 : decode cX0_goThrough 171 = .ok (.iinc 4 1, 3) := by decide +kernel
theorem dX0_goThrough_174 : decode cX0_goThrough 174 = .ok (.goto (-113), 3) := by decide +kernel
theorem dX0_goThrough_177 : decode cX0_goThrough 177 = .ok (.return_, 1) := by decide +kernel
abbrev cX0_isCalm : ByteArray := prog_1_method_36_code
def yX0_isCalm : MethodName := ⟨RX0, "isCalm", "()Z"⟩
theorem dX0_isCalm_0 : decode cX0_isCalm 0 = .ok (.iconst 0, 1) := by decide +kernel
theorem dX0_isCalm_1 : decode cX0_isCalm 1 = .ok (.istore_n 1, 1) := by decide +kernel
theorem dX0_isCalm_2 : decode cX0_isCalm 2 = .ok (.iload_n 1, 1) := by decide +kernel
theorem dX0_isCalm_3 : decode cX0_isCalm 3 = .ok (.aload_n 0, 1) := by decide +kernel
theorem dX0_isCalm_4 : decode cX0_isCalm 4 = .ok (.getfield 278, 3) := by decide +kernel
theorem dX0_isCalm_7 : decode cX0_isCalm 7 = .ok (.if_icmp .ge 54, 3) := by decide +kernel
theorem dX0_isCalm_10 : decode cX0_isCalm 10 = .ok (.iconst 0, 1) := by decide +kernel
theorem dX0_isCalm_11 : decode cX0_isCalm 11 = .ok (.istore_n 2, 1) := by decide +kernel
theorem dX0_isCalm_12 : decode cX0_isCalm 12 = .ok (.iload_n 2, 1) := by decide +kernel
theorem dX0_isCalm_13 : decode cX0_isCalm 13 = .ok (.iload_n 1, 1) := by decide +kernel
theorem dX0_isCalm_14 : decode cX0_isCalm 14 = .ok (.if_icmp .ge 41, 3) := by decide +kernel
theorem dX0_isCalm_17 : decode cX0_isCalm 17 = .ok (.aload_n 0, 1) := by decide +kernel
theorem dX0_isCalm_18 : decode cX0_isCalm 18 = .ok (.getfield 72, 3) := by decide +kernel
theorem dX0_isCalm_21 : decode cX0_isCalm 21 = .ok (.iload_n 1, 1) := by decide +kernel
theorem dX0_isCalm_22 : decode cX0_isCalm 22 = .ok (.aaload, 1) := by decide +kernel
theorem dX0_isCalm_23 : decode cX0_isCalm 23 = .ok (.aload_n 0, 1) := by decide +kernel
theorem dX0_isCalm_24 : decode cX0_isCalm 24 = .ok (.getfield 76, 3) := by decide +kernel
theorem dX0_isCalm_27 : decode cX0_isCalm 27 = .ok (.iload_n 1, 1) := by decide +kernel
theorem dX0_isCalm_28 : decode cX0_isCalm 28 = .ok (.aaload, 1) := by decide +kernel
theorem dX0_isCalm_29 : decode cX0_isCalm 29 = .ok (.aload_n 0, 1) := by decide +kernel
theorem dX0_isCalm_30 : decode cX0_isCalm 30 = .ok (.getfield 72, 3) := by decide +kernel
theorem dX0_isCalm_33 : decode cX0_isCalm 33 = .ok (.iload_n 2, 1) := by decide +kernel
theorem dX0_isCalm_34 : decode cX0_isCalm 34 = .ok (.aaload, 1) := by decide +kernel
theorem dX0_isCalm_35 : decode cX0_isCalm 35 = .ok (.aload_n 0, 1) := by decide +kernel
theorem dX0_isCalm_36 : decode cX0_isCalm 36 = .ok (.getfield 76, 3) := by decide +kernel
theorem dX0_isCalm_39 : decode cX0_isCalm 39 = .ok (.iload_n 2, 1) := by decide +kernel
theorem dX0_isCalm_40 : decode cX0_isCalm 40 = .ok (.aaload, 1) := by decide +kernel
theorem dX0_isCalm_41 : decode cX0_isCalm 41 = .ok (.invokestatic 281, 3) := by decide +kernel
theorem dX0_isCalm_44 : decode cX0_isCalm 44 = .ok (.ifCond .eq 5, 3) := by decide +kernel
theorem dX0_isCalm_47 : decode cX0_isCalm 47 = .ok (.iconst 0, 1) := by decide +kernel
theorem dX0_isCalm_48 : decode cX0_isCalm 48 = .ok (.ireturn, 1) := by decide +kernel
theorem dX0_isCalm_49 : decode cX0_isCalm 49 = .ok (.iinc 2 1, 3) := by decide +kernel
theorem dX0_isCalm_52 : decode cX0_isCalm 52 = .ok (.goto (-40), 3) := by decide +kernel
theorem dX0_isCalm_55 : decode cX0_isCalm 55 = .ok (.iinc 1 1, 3) := by decide +kernel
theorem dX0_isCalm_58 : decode cX0_isCalm 58 = .ok (.goto (-56), 3) := by decide +kernel
theorem dX0_isCalm_61 : decode cX0_isCalm 61 = .ok (.iconst 1, 1) := by decide +kernel
theorem dX0_isCalm_62 : decode cX0_isCalm 62 = .ok (.ireturn, 1) := by decide +kernel
abbrev cX0_wouldBoth : ByteArray := prog_1_method_35_code
def yX0_wouldBoth : MethodName := ⟨RX0, "wouldBoth", "(LShellBeach$Crab;LShellBeach$Shell;LShellBeach$Crab;LShellBeach$Shell;)Z"⟩
theorem dX0_wouldBoth_0 : decode cX0_wouldBoth 0 = .ok (.aload_n 3, 1) := by decide +kernel
theorem dX0_wouldBoth_1 : decode cX0_wouldBoth 1 = .ok (.aload_n 0, 1) := by decide +kernel
theorem dX0_wouldBoth_2 : decode cX0_wouldBoth 2 = .ok (.getfield 177, 3) := by decide +kernel
theorem dX0_wouldBoth_5 : decode cX0_wouldBoth 5 = .ok (.invokevirtual 192, 3) := by decide +kernel
theorem dX0_wouldBoth_8 : decode cX0_wouldBoth 8 = .ok (.aload_n 1, 1) := by decide +kernel
theorem dX0_wouldBoth_9 : decode cX0_wouldBoth 9 = .ok (.aload_n 0, 1) := by decide +kernel
theorem dX0_wouldBoth_10 : decode cX0_wouldBoth 10 = .ok (.getfield 177, 3) := by decide +kernel
theorem dX0_wouldBoth_13 : decode cX0_wouldBoth 13 = .ok (.invokevirtual 192, 3) := by decide +kernel
theorem dX0_wouldBoth_16 : decode cX0_wouldBoth 16 = .ok (.if_icmp .le 26, 3) := by decide +kernel
theorem dX0_wouldBoth_19 : decode cX0_wouldBoth 19 = .ok (.aload_n 1, 1) := by decide +kernel
theorem dX0_wouldBoth_20 : decode cX0_wouldBoth 20 = .ok (.aload_n 2, 1) := by decide +kernel
theorem dX0_wouldBoth_21 : decode cX0_wouldBoth 21 = .ok (.getfield 177, 3) := by decide +kernel
theorem dX0_wouldBoth_24 : decode cX0_wouldBoth 24 = .ok (.invokevirtual 192, 3) := by decide +kernel
theorem dX0_wouldBoth_27 : decode cX0_wouldBoth 27 = .ok (.aload_n 3, 1) := by decide +kernel
theorem dX0_wouldBoth_28 : decode cX0_wouldBoth 28 = .ok (.aload_n 2, 1) := by decide +kernel
theorem dX0_wouldBoth_29 : decode cX0_wouldBoth 29 = .ok (.getfield 177, 3) := by decide +kernel
theorem dX0_wouldBoth_32 : decode cX0_wouldBoth 32 = .ok (.invokevirtual 192, 3) := by decide +kernel
theorem dX0_wouldBoth_35 : decode cX0_wouldBoth 35 = .ok (.if_icmp .le 7, 3) := by decide +kernel
theorem dX0_wouldBoth_38 : decode cX0_wouldBoth 38 = .ok (.iconst 1, 1) := by decide +kernel
theorem dX0_wouldBoth_39 : decode cX0_wouldBoth 39 = .ok (.goto 4, 3) := by decide +kernel
theorem dX0_wouldBoth_42 : decode cX0_wouldBoth 42 = .ok (.iconst 0, 1) := by decide +kernel
theorem dX0_wouldBoth_43 : decode cX0_wouldBoth 43 = .ok (.ireturn, 1) := by decide +kernel
abbrev cX0_calm : ByteArray := prog_1_method_40_code
def yX0_calm : MethodName := ⟨RX0, "calm", "(I)I"⟩
theorem dX0_calm_0 : decode cX0_calm 0 = .ok (.aload_n 0, 1) := by decide +kernel
theorem dX0_calm_1 : decode cX0_calm 1 = .ok (.iload_n 1, 1) := by decide +kernel
theorem dX0_calm_2 : decode cX0_calm 2 = .ok (.invokevirtual 305, 3) := by decide +kernel
theorem dX0_calm_5 : decode cX0_calm 5 = .ok (.istore_n 2, 1) := by decide +kernel
theorem dX0_calm_6 : decode cX0_calm 6 = .ok (.iload_n 2, 1) := by decide +kernel
theorem dX0_calm_7 : decode cX0_calm 7 = .ok (.ifCond .eq 5, 3) := by decide +kernel
theorem dX0_calm_10 : decode cX0_calm 10 = .ok (.iload_n 2, 1) := by decide +kernel
theorem dX0_calm_11 : decode cX0_calm 11 = .ok (.ireturn, 1) := by decide +kernel
theorem dX0_calm_12 : decode cX0_calm 12 = .ok (.aload_n 0, 1) := by decide +kernel
theorem dX0_calm_13 : decode cX0_calm 13 = .ok (.invokevirtual 308, 3) := by decide +kernel
theorem dX0_calm_16 : decode cX0_calm 16 = .ok (.aload_n 0, 1) := by decide +kernel
theorem dX0_calm_17 : decode cX0_calm 17 = .ok (.getfield 285, 3) := by decide +kernel
theorem dX0_calm_20 : decode cX0_calm 20 = .ok (.ireturn, 1) := by decide +kernel
abbrev cX0_pairs : ByteArray := prog_1_method_41_code
def yX0_pairs : MethodName := ⟨RX0, "pairs", "()I"⟩
theorem dX0_pairs_0 : decode cX0_pairs 0 = .ok (.iconst 0, 1) := by decide +kernel
theorem dX0_pairs_1 : decode cX0_pairs 1 = .ok (.istore_n 1, 1) := by decide +kernel
theorem dX0_pairs_2 : decode cX0_pairs 2 = .ok (.iconst 0, 1) := by decide +kernel
theorem dX0_pairs_3 : decode cX0_pairs 3 = .ok (.istore_n 2, 1) := by decide +kernel
theorem dX0_pairs_4 : decode cX0_pairs 4 = .ok (.iload_n 2, 1) := by decide +kernel
theorem dX0_pairs_5 : decode cX0_pairs 5 = .ok (.aload_n 0, 1) := by decide +kernel
theorem dX0_pairs_6 : decode cX0_pairs 6 = .ok (.getfield 34, 3) := by decide +kernel
theorem dX0_pairs_9 : decode cX0_pairs 9 = .ok (.invokevirtual 11, 3) := by decide +kernel
theorem dX0_pairs_12 : decode cX0_pairs 12 = .ok (.if_icmp .ge 115, 3) := by decide +kernel
theorem dX0_pairs_15 : decode cX0_pairs 15 = .ok (.iconst 0, 1) := by decide +kernel
theorem dX0_pairs_16 : decode cX0_pairs 16 = .ok (.istore_n 3, 1) := by decide +kernel
theorem dX0_pairs_17 : decode cX0_pairs 17 = .ok (.iload_n 3, 1) := by decide +kernel
theorem dX0_pairs_18 : decode cX0_pairs 18 = .ok (.iload_n 2, 1) := by decide +kernel
theorem dX0_pairs_19 : decode cX0_pairs 19 = .ok (.if_icmp .ge 102, 3) := by decide +kernel
theorem dX0_pairs_22 : decode cX0_pairs 22 = .ok (.aload_n 0, 1) := by decide +kernel
theorem dX0_pairs_23 : decode cX0_pairs 23 = .ok (.getfield 34, 3) := by decide +kernel
theorem dX0_pairs_26 : decode cX0_pairs 26 = .ok (.iload_n 2, 1) := by decide +kernel
theorem dX0_pairs_27 : decode cX0_pairs 27 = .ok (.invokevirtual 17, 3) := by decide +kernel
theorem dX0_pairs_30 : decode cX0_pairs 30 = .ok (.checkcast 70, 3) := by decide +kernel
theorem dX0_pairs_33 : decode cX0_pairs 33 = .ok (.invokevirtual 240, 3) := by decide +kernel
theorem dX0_pairs_36 : decode cX0_pairs 36 = .ok (.ifCond .eq 79, 3) := by decide +kernel
theorem dX0_pairs_39 : decode cX0_pairs 39 = .ok (.aload_n 0, 1) := by decide +kernel
theorem dX0_pairs_40 : decode cX0_pairs 40 = .ok (.getfield 34, 3) := by decide +kernel
theorem dX0_pairs_43 : decode cX0_pairs 43 = .ok (.iload_n 3, 1) := by decide +kernel
theorem dX0_pairs_44 : decode cX0_pairs 44 = .ok (.invokevirtual 17, 3) := by decide +kernel
theorem dX0_pairs_47 : decode cX0_pairs 47 = .ok (.checkcast 70, 3) := by decide +kernel
theorem dX0_pairs_50 : decode cX0_pairs 50 = .ok (.invokevirtual 240, 3) := by decide +kernel
theorem dX0_pairs_53 : decode cX0_pairs 53 = .ok (.ifCond .eq 62, 3) := by decide +kernel
theorem dX0_pairs_56 : decode cX0_pairs 56 = .ok (.aload_n 0, 1) := by decide +kernel
theorem dX0_pairs_57 : decode cX0_pairs 57 = .ok (.getfield 34, 3) := by decide +kernel
theorem dX0_pairs_60 : decode cX0_pairs 60 = .ok (.iload_n 2, 1) := by decide +kernel
theorem dX0_pairs_61 : decode cX0_pairs 61 = .ok (.invokevirtual 17, 3) := by decide +kernel
theorem dX0_pairs_64 : decode cX0_pairs 64 = .ok (.checkcast 70, 3) := by decide +kernel
theorem dX0_pairs_67 : decode cX0_pairs 67 = .ok (.aload_n 0, 1) := by decide +kernel
theorem dX0_pairs_68 : decode cX0_pairs 68 = .ok (.getfield 34, 3) := by decide +kernel
theorem dX0_pairs_71 : decode cX0_pairs 71 = .ok (.iload_n 2, 1) := by decide +kernel
theorem dX0_pairs_72 : decode cX0_pairs 72 = .ok (.invokevirtual 17, 3) := by decide +kernel
theorem dX0_pairs_75 : decode cX0_pairs 75 = .ok (.checkcast 70, 3) := by decide +kernel
theorem dX0_pairs_78 : decode cX0_pairs 78 = .ok (.getfield 147, 3) := by decide +kernel
theorem dX0_pairs_81 : decode cX0_pairs 81 = .ok (.aload_n 0, 1) := by decide +kernel
theorem dX0_pairs_82 : decode cX0_pairs 82 = .ok (.getfield 34, 3) := by decide +kernel
theorem dX0_pairs_85 : decode cX0_pairs 85 = .ok (.iload_n 3, 1) := by decide +kernel
theorem dX0_pairs_86 : decode cX0_pairs 86 = .ok (.invokevirtual 17, 3) := by decide +kernel
theorem dX0_pairs_89 : decode cX0_pairs 89 = .ok (.checkcast 70, 3) := by decide +kernel
theorem dX0_pairs_92 : decode cX0_pairs 92 = .ok (.aload_n 0, 1) := by decide +kernel
theorem dX0_pairs_93 : decode cX0_pairs 93 = .ok (.getfield 34, 3) := by decide +kernel
theorem dX0_pairs_96 : decode cX0_pairs 96 = .ok (.iload_n 3, 1) := by decide +kernel
theorem dX0_pairs_97 : decode cX0_pairs 97 = .ok (.invokevirtual 17, 3) := by decide +kernel
theorem dX0_pairs_100 : decode cX0_pairs 100 = .ok (.checkcast 70, 3) := by decide +kernel
theorem dX0_pairs_103 : decode cX0_pairs 103 = .ok (.getfield 147, 3) := by decide +kernel
theorem dX0_pairs_106 : decode cX0_pairs 106 = .ok (.invokestatic 281, 3) := by decide +kernel
theorem dX0_pairs_109 : decode cX0_pairs 109 = .ok (.ifCond .eq 6, 3) := by decide +kernel
theorem dX0_pairs_112 : decode cX0_pairs 112 = .ok (.iinc 1 1, 3) := by decide +kernel
theorem dX0_pairs_115 : decode cX0_pairs 115 = .ok (.iinc 3 1, 3) := by decide +kernel
theorem dX0_pairs_118 : decode cX0_pairs 118 = .ok (.goto (-101), 3) := by decide +kernel
theorem dX0_pairs_121 : decode cX0_pairs 121 = .ok (.iinc 2 1, 3) := by decide +kernel
theorem dX0_pairs_124 : decode cX0_pairs 124 = .ok (.goto (-120), 3) := by decide +kernel
theorem dX0_pairs_127 : decode cX0_pairs 127 = .ok (.iload_n 1, 1) := by decide +kernel
theorem dX0_pairs_128 : decode cX0_pairs 128 = .ok (.ireturn, 1) := by decide +kernel
abbrev cX0_film : ByteArray := prog_1_method_42_code
def yX0_film : MethodName := ⟨RX0, "film", "(IIIIIII)I"⟩
theorem dX0_film_0 : decode cX0_film 0 = .ok (.iload_n 1, 1) := by decide +kernel
theorem dX0_film_1 : decode cX0_film 1 = .ok (.iconst 0, 1) := by decide +kernel
theorem dX0_film_2 : decode cX0_film 2 = .ok (.iconst 3, 1) := by decide +kernel
theorem dX0_film_3 : decode cX0_film 3 = .ok (.invokestatic 3, 3) := by decide +kernel
theorem dX0_film_6 : decode cX0_film 6 = .ok (.ifCond .ne 5, 3) := by decide +kernel
theorem dX0_film_9 : decode cX0_film 9 = .ok (.iconst (-1), 1) := by decide +kernel
theorem dX0_film_10 : decode cX0_film 10 = .ok (.ireturn, 1) := by decide +kernel
theorem dX0_film_11 : decode cX0_film 11 = .ok (.iload_n 2, 1) := by decide +kernel
theorem dX0_film_12 : decode cX0_film 12 = .ok (.iload_n 3, 1) := by decide +kernel
theorem dX0_film_13 : decode cX0_film 13 = .ok (.iload 4, 2) := by decide +kernel
theorem dX0_film_15 : decode cX0_film 15 = .ok (.iload 5, 2) := by decide +kernel
theorem dX0_film_17 : decode cX0_film 17 = .ok (.iload 6, 2) := by decide +kernel
theorem dX0_film_19 : decode cX0_film 19 = .ok (.invokestatic 220, 3) := by decide +kernel
theorem dX0_film_22 : decode cX0_film 22 = .ok (.ifCond .eq 13, 3) := by decide +kernel
theorem dX0_film_25 : decode cX0_film 25 = .ok (.iload 7, 2) := by decide +kernel
theorem dX0_film_27 : decode cX0_film 27 = .ok (.iconst (-1), 1) := by decide +kernel
theorem dX0_film_28 : decode cX0_film 28 = .ok (.iconst 1, 1) := by decide +kernel
theorem dX0_film_29 : decode cX0_film 29 = .ok (.invokestatic 3, 3) := by decide +kernel
theorem dX0_film_32 : decode cX0_film 32 = .ok (.ifCond .ne 6, 3) := by decide +kernel
theorem dX0_film_35 : decode cX0_film 35 = .ok (.bipush (-2), 2) := by decide +kernel
theorem dX0_film_37 : decode cX0_film 37 = .ok (.ireturn, 1) := by decide +kernel
theorem dX0_film_38 : decode cX0_film 38 = .ok (.aload_n 0, 1) := by decide +kernel
theorem dX0_film_39 : decode cX0_film 39 = .ok (.getfield 83, 3) := by decide +kernel
theorem dX0_film_42 : decode cX0_film 42 = .ok (.invokevirtual 11, 3) := by decide +kernel
theorem dX0_film_45 : decode cX0_film 45 = .ok (.bipush 40, 2) := by decide +kernel
theorem dX0_film_47 : decode cX0_film 47 = .ok (.if_icmp .ne 6, 3) := by decide +kernel
theorem dX0_film_50 : decode cX0_film 50 = .ok (.bipush (-4), 2) := by decide +kernel
theorem dX0_film_52 : decode cX0_film 52 = .ok (.ireturn, 1) := by decide +kernel
theorem dX0_film_53 : decode cX0_film 53 = .ok (.aload_n 0, 1) := by decide +kernel
theorem dX0_film_54 : decode cX0_film 54 = .ok (.getfield 83, 3) := by decide +kernel
theorem dX0_film_57 : decode cX0_film 57 = .ok (.new 311, 3) := by decide +kernel
theorem dX0_film_60 : decode cX0_film 60 = .ok (.dup, 1) := by decide +kernel
theorem dX0_film_61 : decode cX0_film 61 = .ok (.iload_n 1, 1) := by decide +kernel
theorem dX0_film_62 : decode cX0_film 62 = .ok (.iload_n 2, 1) := by decide +kernel
theorem dX0_film_63 : decode cX0_film 63 = .ok (.iload_n 3, 1) := by decide +kernel
theorem dX0_film_64 : decode cX0_film 64 = .ok (.iload 4, 2) := by decide +kernel
theorem dX0_film_66 : decode cX0_film 66 = .ok (.iload 5, 2) := by decide +kernel
theorem dX0_film_68 : decode cX0_film 68 = .ok (.iload 6, 2) := by decide +kernel
theorem dX0_film_70 : decode cX0_film 70 = .ok (.iload 7, 2) := by decide +kernel
theorem dX0_film_72 : decode cX0_film 72 = .ok (.invokespecial 313, 3) := by decide +kernel
theorem dX0_film_75 : decode cX0_film 75 = .ok (.invokevirtual 93, 3) := by decide +kernel
theorem dX0_film_78 : decode cX0_film 78 = .ok (.pop, 1) := by decide +kernel
theorem dX0_film_79 : decode cX0_film 79 = .ok (.aload_n 0, 1) := by decide +kernel
theorem dX0_film_80 : decode cX0_film 80 = .ok (.getfield 83, 3) := by decide +kernel
theorem dX0_film_83 : decode cX0_film 83 = .ok (.invokevirtual 11, 3) := by decide +kernel
theorem dX0_film_86 : decode cX0_film 86 = .ok (.ireturn, 1) := by decide +kernel
abbrev cX0_reads : ByteArray := prog_1_method_44_code
def yX0_reads : MethodName := ⟨RX0, "reads", "(II)I"⟩
theorem dX0_reads_0 : decode cX0_reads 0 = .ok (.aload_n 0, 1) := by decide +kernel
theorem dX0_reads_1 : decode cX0_reads 1 = .ok (.iload_n 1, 1) := by decide +kernel
theorem dX0_reads_2 : decode cX0_reads 2 = .ok (.invokevirtual 132, 3) := by decide +kernel
theorem dX0_reads_5 : decode cX0_reads 5 = .ok (.astore_n 3, 1) := by decide +kernel
theorem dX0_reads_6 : decode cX0_reads 6 = .ok (.aload_n 3, 1) := by decide +kernel
theorem dX0_reads_7 : decode cX0_reads 7 = .ok (.ifnull 12, 3) := by decide +kernel
theorem dX0_reads_10 : decode cX0_reads 10 = .ok (.iload_n 2, 1) := by decide +kernel
theorem dX0_reads_11 : decode cX0_reads 11 = .ok (.iconst 0, 1) := by decide +kernel
theorem dX0_reads_12 : decode cX0_reads 12 = .ok (.iconst 1, 1) := by decide +kernel
theorem dX0_reads_13 : decode cX0_reads 13 = .ok (.invokestatic 3, 3) := by decide +kernel
theorem dX0_reads_16 : decode cX0_reads 16 = .ok (.ifCond .ne 7, 3) := by decide +kernel
theorem dX0_reads_19 : decode cX0_reads 19 = .ok (.iconst (-1), 1) := by decide +kernel
theorem dX0_reads_20 : decode cX0_reads 20 = .ok (.goto 17, 3) := by decide +kernel
theorem dX0_reads_23 : decode cX0_reads 23 = .ok (.aload_n 0, 1) := by decide +kernel
theorem dX0_reads_24 : decode cX0_reads 24 = .ok (.aload_n 3, 1) := by decide +kernel
theorem dX0_reads_25 : decode cX0_reads 25 = .ok (.iload_n 2, 1) := by decide +kernel
theorem dX0_reads_26 : decode cX0_reads 26 = .ok (.ifCond .ne 7, 3) := by decide +kernel
theorem dX0_reads_29 : decode cX0_reads 29 = .ok (.iconst 1, 1) := by decide +kernel
theorem dX0_reads_30 : decode cX0_reads 30 = .ok (.goto 4, 3) := by decide +kernel
theorem dX0_reads_33 : decode cX0_reads 33 = .ok (.iconst 0, 1) := by decide +kernel
theorem dX0_reads_34 : decode cX0_reads 34 = .ok (.invokevirtual 323, 3) := by decide +kernel
theorem dX0_reads_37 : decode cX0_reads 37 = .ok (.ireturn, 1) := by decide +kernel
abbrev cX0_agreeing : ByteArray := prog_1_method_43_code
def yX0_agreeing : MethodName := ⟨RX0, "agreeing", "(LShellBeach$Habit;Z)I"⟩
theorem dX0_agreeing_0 : decode cX0_agreeing 0 = .ok (.iconst 0, 1) := by decide +kernel
theorem dX0_agreeing_1 : decode cX0_agreeing 1 = .ok (.istore_n 3, 1) := by decide +kernel
theorem dX0_agreeing_2 : decode cX0_agreeing 2 = .ok (.iconst 0, 1) := by decide +kernel
theorem dX0_agreeing_3 : decode cX0_agreeing 3 = .ok (.istore 4, 2) := by decide +kernel
theorem dX0_agreeing_5 : decode cX0_agreeing 5 = .ok (.iload 4, 2) := by decide +kernel
theorem dX0_agreeing_7 : decode cX0_agreeing 7 = .ok (.aload_n 0, 1) := by decide +kernel
theorem dX0_agreeing_8 : decode cX0_agreeing 8 = .ok (.getfield 83, 3) := by decide +kernel
theorem dX0_agreeing_11 : decode cX0_agreeing 11 = .ok (.invokevirtual 11, 3) := by decide +kernel
theorem dX0_agreeing_14 : decode cX0_agreeing 14 = .ok (.if_icmp .ge 55, 3) := by decide +kernel
theorem dX0_agreeing_17 : decode cX0_agreeing 17 = .ok (.iload_n 3, 1) := by decide +kernel
theorem dX0_agreeing_18 : decode cX0_agreeing 18 = .ok (.aload_n 0, 1) := by decide +kernel
theorem dX0_agreeing_19 : decode cX0_agreeing 19 = .ok (.getfield 83, 3) := by decide +kernel
theorem dX0_agreeing_22 : decode cX0_agreeing 22 = .ok (.iload 4, 2) := by decide +kernel
theorem dX0_agreeing_24 : decode cX0_agreeing 24 = .ok (.invokevirtual 17, 3) := by decide +kernel
theorem dX0_agreeing_27 : decode cX0_agreeing 27 = .ok (.checkcast 311, 3) := by decide +kernel
theorem dX0_agreeing_30 : decode cX0_agreeing 30 = .ok (.invokevirtual 316, 3) := by decide +kernel
theorem dX0_agreeing_33 : decode cX0_agreeing 33 = .ok (.ifCond .eq 27, 3) := by decide +kernel
theorem dX0_agreeing_36 : decode cX0_agreeing 36 = .ok (.aload_n 0, 1) := by decide +kernel
theorem dX0_agreeing_37 : decode cX0_agreeing 37 = .ok (.getfield 83, 3) := by decide +kernel
theorem dX0_agreeing_40 : decode cX0_agreeing 40 = .ok (.iload 4, 2) := by decide +kernel
theorem dX0_agreeing_42 : decode cX0_agreeing 42 = .ok (.invokevirtual 17, 3) := by decide +kernel
theorem dX0_agreeing_45 : decode cX0_agreeing 45 = .ok (.checkcast 311, 3) := by decide +kernel
theorem dX0_agreeing_48 : decode cX0_agreeing 48 = .ok (.aload_n 1, 1) := by decide +kernel
theorem dX0_agreeing_49 : decode cX0_agreeing 49 = .ok (.invokevirtual 319, 3) := by decide +kernel
theorem dX0_agreeing_52 : decode cX0_agreeing 52 = .ok (.iload_n 2, 1) := by decide +kernel
theorem dX0_agreeing_53 : decode cX0_agreeing 53 = .ok (.if_icmp .ne 7, 3) := by decide +kernel
theorem dX0_agreeing_56 : decode cX0_agreeing 56 = .ok (.iconst 1, 1) := by decide +kernel
theorem dX0_agreeing_57 : decode cX0_agreeing 57 = .ok (.goto 4, 3) := by decide +kernel
theorem dX0_agreeing_60 : decode cX0_agreeing 60 = .ok (.iconst 0, 1) := by decide +kernel
theorem dX0_agreeing_61 : decode cX0_agreeing 61 = .ok (.iadd, 1) := by decide +kernel
theorem dX0_agreeing_62 : decode cX0_agreeing 62 = .ok (.istore_n 3, 1) := by decide +kernel
theorem dX0_agreeing_63 : decode cX0_agreeing 63 = .ok (.iinc 4 1, 3) := by decide +kernel
theorem dX0_agreeing_66 : decode cX0_agreeing 66 = .ok (.goto (-61), 3) := by decide +kernel
theorem dX0_agreeing_69 : decode cX0_agreeing 69 = .ok (.iload_n 3, 1) := by decide +kernel
theorem dX0_agreeing_70 : decode cX0_agreeing 70 = .ok (.ireturn, 1) := by decide +kernel
abbrev cX0_sure : ByteArray := prog_1_method_45_code
def yX0_sure : MethodName := ⟨RX0, "sure", "()I"⟩
theorem dX0_sure_0 : decode cX0_sure 0 = .ok (.iconst 0, 1) := by decide +kernel
theorem dX0_sure_1 : decode cX0_sure 1 = .ok (.istore_n 1, 1) := by decide +kernel
theorem dX0_sure_2 : decode cX0_sure 2 = .ok (.iconst 0, 1) := by decide +kernel
theorem dX0_sure_3 : decode cX0_sure 3 = .ok (.istore_n 2, 1) := by decide +kernel
theorem dX0_sure_4 : decode cX0_sure 4 = .ok (.iload_n 2, 1) := by decide +kernel
theorem dX0_sure_5 : decode cX0_sure 5 = .ok (.aload_n 0, 1) := by decide +kernel
theorem dX0_sure_6 : decode cX0_sure 6 = .ok (.getfield 55, 3) := by decide +kernel
theorem dX0_sure_9 : decode cX0_sure 9 = .ok (.invokevirtual 11, 3) := by decide +kernel
theorem dX0_sure_12 : decode cX0_sure 12 = .ok (.if_icmp .ge 38, 3) := by decide +kernel
theorem dX0_sure_15 : decode cX0_sure 15 = .ok (.iload_n 1, 1) := by decide +kernel
theorem dX0_sure_16 : decode cX0_sure 16 = .ok (.aload_n 0, 1) := by decide +kernel
theorem dX0_sure_17 : decode cX0_sure 17 = .ok (.aload_n 0, 1) := by decide +kernel
theorem dX0_sure_18 : decode cX0_sure 18 = .ok (.getfield 55, 3) := by decide +kernel
theorem dX0_sure_21 : decode cX0_sure 21 = .ok (.iload_n 2, 1) := by decide +kernel
theorem dX0_sure_22 : decode cX0_sure 22 = .ok (.invokevirtual 17, 3) := by decide +kernel
theorem dX0_sure_25 : decode cX0_sure 25 = .ok (.checkcast 141, 3) := by decide +kernel
theorem dX0_sure_28 : decode cX0_sure 28 = .ok (.iconst 0, 1) := by decide +kernel
theorem dX0_sure_29 : decode cX0_sure 29 = .ok (.invokevirtual 323, 3) := by decide +kernel
theorem dX0_sure_32 : decode cX0_sure 32 = .ok (.ifCond .ne 9, 3) := by decide +kernel
theorem dX0_sure_35 : decode cX0_sure 35 = .ok (.iconst 1, 1) := by decide +kernel
theorem dX0_sure_36 : decode cX0_sure 36 = .ok (.iload_n 2, 1) := by decide +kernel
theorem dX0_sure_37 : decode cX0_sure 37 = .ok (.ishl, 1) := by decide +kernel
theorem dX0_sure_38 : decode cX0_sure 38 = .ok (.goto 4, 3) := by decide +kernel
theorem dX0_sure_41 : decode cX0_sure 41 = .ok (.iconst 0, 1) := by decide +kernel
theorem dX0_sure_42 : decode cX0_sure 42 = .ok (.ior, 1) := by decide +kernel
theorem dX0_sure_43 : decode cX0_sure 43 = .ok (.istore_n 1, 1) := by decide +kernel
theorem dX0_sure_44 : decode cX0_sure 44 = .ok (.iinc 2 1, 3) := by decide +kernel
theorem dX0_sure_47 : decode cX0_sure 47 = .ok (.goto (-43), 3) := by decide +kernel
theorem dX0_sure_50 : decode cX0_sure 50 = .ok (.iload_n 1, 1) := by decide +kernel
theorem dX0_sure_51 : decode cX0_sure 51 = .ok (.ireturn, 1) := by decide +kernel
abbrev cX0_mend : ByteArray := prog_1_method_49_code
def yX0_mend : MethodName := ⟨RX0, "mend", "(IIII)I"⟩
theorem dX0_mend_0 : decode cX0_mend 0 = .ok (.aload_n 0, 1) := by decide +kernel
theorem dX0_mend_1 : decode cX0_mend 1 = .ok (.iload_n 1, 1) := by decide +kernel
theorem dX0_mend_2 : decode cX0_mend 2 = .ok (.invokevirtual 132, 3) := by decide +kernel
theorem dX0_mend_5 : decode cX0_mend 5 = .ok (.astore 5, 2) := by decide +kernel
theorem dX0_mend_7 : decode cX0_mend 7 = .ok (.aload 5, 2) := by decide +kernel
theorem dX0_mend_9 : decode cX0_mend 9 = .ok (.ifnull 13, 3) := by decide +kernel
theorem dX0_mend_12 : decode cX0_mend 12 = .ok (.iload 4, 2) := by decide +kernel
theorem dX0_mend_14 : decode cX0_mend 14 = .ok (.iconst 0, 1) := by decide +kernel
theorem dX0_mend_15 : decode cX0_mend 15 = .ok (.iconst 1, 1) := by decide +kernel
theorem dX0_mend_16 : decode cX0_mend 16 = .ok (.invokestatic 3, 3) := by decide +kernel
theorem dX0_mend_19 : decode cX0_mend 19 = .ok (.ifCond .ne 5, 3) := by decide +kernel
theorem dX0_mend_22 : decode cX0_mend 22 = .ok (.iconst (-1), 1) := by decide +kernel
theorem dX0_mend_23 : decode cX0_mend 23 = .ok (.ireturn, 1) := by decide +kernel
theorem dX0_mend_24 : decode cX0_mend 24 = .ok (.iload_n 2, 1) := by decide +kernel
theorem dX0_mend_25 : decode cX0_mend 25 = .ok (.iconst 1, 1) := by decide +kernel
theorem dX0_mend_26 : decode cX0_mend 26 = .ok (.bipush 10, 2) := by decide +kernel
theorem dX0_mend_28 : decode cX0_mend 28 = .ok (.invokestatic 3, 3) := by decide +kernel
theorem dX0_mend_31 : decode cX0_mend 31 = .ok (.ifCond .eq 16, 3) := by decide +kernel
theorem dX0_mend_34 : decode cX0_mend 34 = .ok (.iload_n 3, 1) := by decide +kernel
theorem dX0_mend_35 : decode cX0_mend 35 = .ok (.sipush (-9999), 3) := by decide +kernel
theorem dX0_mend_38 : decode cX0_mend 38 = .ok (.sipush 9999, 3) := by decide +kernel
theorem dX0_mend_41 : decode cX0_mend 41 = .ok (.invokestatic 3, 3) := by decide +kernel
theorem dX0_mend_44 : decode cX0_mend 44 = .ok (.ifCond .ne 6, 3) := by decide +kernel
theorem dX0_mend_47 : decode cX0_mend 47 = .ok (.bipush (-2), 2) := by decide +kernel
theorem dX0_mend_49 : decode cX0_mend 49 = .ok (.ireturn, 1) := by decide +kernel
theorem dX0_mend_50 : decode cX0_mend 50 = .ok (.aload_n 0, 1) := by decide +kernel
theorem dX0_mend_51 : decode cX0_mend 51 = .ok (.aload 5, 2) := by decide +kernel
theorem dX0_mend_53 : decode cX0_mend 53 = .ok (.iload_n 2, 1) := by decide +kernel
theorem dX0_mend_54 : decode cX0_mend 54 = .ok (.iload_n 3, 1) := by decide +kernel
theorem dX0_mend_55 : decode cX0_mend 55 = .ok (.invokevirtual 356, 3) := by decide +kernel
theorem dX0_mend_58 : decode cX0_mend 58 = .ok (.ifCond .ne 6, 3) := by decide +kernel
theorem dX0_mend_61 : decode cX0_mend 61 = .ok (.bipush (-100), 2) := by decide +kernel
theorem dX0_mend_63 : decode cX0_mend 63 = .ok (.ireturn, 1) := by decide +kernel
theorem dX0_mend_64 : decode cX0_mend 64 = .ok (.iload 4, 2) := by decide +kernel
theorem dX0_mend_66 : decode cX0_mend 66 = .ok (.ifCond .ne 10, 3) := by decide +kernel
theorem dX0_mend_69 : decode cX0_mend 69 = .ok (.aload_n 0, 1) := by decide +kernel
theorem dX0_mend_70 : decode cX0_mend 70 = .ok (.getfield 345, 3) := by decide +kernel
theorem dX0_mend_73 : decode cX0_mend 73 = .ok (.goto 7, 3) := by decide +kernel
theorem dX0_mend_76 : decode cX0_mend 76 = .ok (.aload_n 0, 1) := by decide +kernel
theorem dX0_mend_77 : decode cX0_mend 77 = .ok (.getfield 348, 3) := by decide +kernel
theorem dX0_mend_80 : decode cX0_mend 80 = .ok (.ireturn, 1) := by decide +kernel
abbrev cX0_findMend : ByteArray := prog_1_method_48_code
def yX0_findMend : MethodName := ⟨RX0, "findMend", "(LShellBeach$Habit;II)Z"⟩
theorem dX0_findMend_0 : decode cX0_findMend 0 = .ok (.new 331, 3) := by decide +kernel
theorem dX0_findMend_3 : decode cX0_findMend 3 = .ok (.dup, 1) := by decide +kernel
theorem dX0_findMend_4 : decode cX0_findMend 4 = .ok (.aload_n 0, 1) := by decide +kernel
theorem dX0_findMend_5 : decode cX0_findMend 5 = .ok (.invokespecial 351, 3) := by decide +kernel
theorem dX0_findMend_8 : decode cX0_findMend 8 = .ok (.astore 4, 2) := by decide +kernel
theorem dX0_findMend_10 : decode cX0_findMend 10 = .ok (.aload_n 0, 1) := by decide +kernel
theorem dX0_findMend_11 : decode cX0_findMend 11 = .ok (.iconst 0, 1) := by decide +kernel
theorem dX0_findMend_12 : decode cX0_findMend 12 = .ok (.putfield 345, 3) := by decide +kernel
theorem dX0_findMend_15 : decode cX0_findMend 15 = .ok (.aload_n 0, 1) := by decide +kernel
theorem dX0_findMend_16 : decode cX0_findMend 16 = .ok (.bipush (-5), 2) := by decide +kernel
theorem dX0_findMend_18 : decode cX0_findMend 18 = .ok (.putfield 348, 3) := by decide +kernel
theorem dX0_findMend_21 : decode cX0_findMend 21 = .ok (.aload_n 0, 1) := by decide +kernel
theorem dX0_findMend_22 : decode cX0_findMend 22 = .ok (.aload 4, 2) := by decide +kernel
theorem dX0_findMend_24 : decode cX0_findMend 24 = .ok (.iload_n 2, 1) := by decide +kernel
theorem dX0_findMend_25 : decode cX0_findMend 25 = .ok (.iload_n 3, 1) := by decide +kernel
theorem dX0_findMend_26 : decode cX0_findMend 26 = .ok (.invokevirtual 341, 3) := by decide +kernel
theorem dX0_findMend_29 : decode cX0_findMend 29 = .ok (.ifCond .eq 5, 3) := by decide +kernel
theorem dX0_findMend_32 : decode cX0_findMend 32 = .ok (.iconst 1, 1) := by decide +kernel
theorem dX0_findMend_33 : decode cX0_findMend 33 = .ok (.ireturn, 1) := by decide +kernel
theorem dX0_findMend_34 : decode cX0_findMend 34 = .ok (.iconst 1, 1) := by decide +kernel
theorem dX0_findMend_35 : decode cX0_findMend 35 = .ok (.istore 5, 2) := by decide +kernel
theorem dX0_findMend_37 : decode cX0_findMend 37 = .ok (.iload 5, 2) := by decide +kernel
theorem dX0_findMend_39 : decode cX0_findMend 39 = .ok (.iconst 5, 1) := by decide +kernel
theorem dX0_findMend_40 : decode cX0_findMend 40 = .ok (.if_icmp .gt 65, 3) := by decide +kernel
theorem dX0_findMend_43 : decode cX0_findMend 43 = .ok (.iconst 0, 1) := by decide +kernel
theorem dX0_findMend_44 : decode cX0_findMend 44 = .ok (.istore 6, 2) := by decide +kernel
theorem dX0_findMend_46 : decode cX0_findMend 46 = .ok (.iload 6, 2) := by decide +kernel
theorem dX0_findMend_48 : decode cX0_findMend 48 = .ok (.aload_n 1, 1) := by decide +kernel
theorem dX0_findMend_49 : decode cX0_findMend 49 = .ok (.getfield 335, 3) := by decide +kernel
theorem dX0_findMend_52 : decode cX0_findMend 52 = .ok (.invokevirtual 11, 3) := by decide +kernel
theorem dX0_findMend_55 : decode cX0_findMend 55 = .ok (.if_icmp .ge 44, 3) := by decide +kernel
theorem dX0_findMend_58 : decode cX0_findMend 58 = .ok (.aload_n 0, 1) := by decide +kernel
theorem dX0_findMend_59 : decode cX0_findMend 59 = .ok (.aload 4, 2) := by decide +kernel
theorem dX0_findMend_61 : decode cX0_findMend 61 = .ok (.aload_n 1, 1) := by decide +kernel
theorem dX0_findMend_62 : decode cX0_findMend 62 = .ok (.iload 6, 2) := by decide +kernel
theorem dX0_findMend_64 : decode cX0_findMend 64 = .ok (.iload 5, 2) := by decide +kernel
theorem dX0_findMend_66 : decode cX0_findMend 66 = .ok (.ineg, 1) := by decide +kernel
theorem dX0_findMend_67 : decode cX0_findMend 67 = .ok (.iload_n 2, 1) := by decide +kernel
theorem dX0_findMend_68 : decode cX0_findMend 68 = .ok (.iload_n 3, 1) := by decide +kernel
theorem dX0_findMend_69 : decode cX0_findMend 69 = .ok (.invokevirtual 352, 3) := by decide +kernel
theorem dX0_findMend_72 : decode cX0_findMend 72 = .ok (.ifCond .ne 19, 3) := by decide +kernel
theorem dX0_findMend_75 : decode cX0_findMend 75 = .ok (.aload_n 0, 1) := by decide +kernel
theorem dX0_findMend_76 : decode cX0_findMend 76 = .ok (.aload 4, 2) := by decide +kernel
theorem dX0_findMend_78 : decode cX0_findMend 78 = .ok (.aload_n 1, 1) := by decide +kernel
theorem dX0_findMend_79 : decode cX0_findMend 79 = .ok (.iload 6, 2) := by decide +kernel
theorem dX0_findMend_81 : decode cX0_findMend 81 = .ok (.iload 5, 2) := by decide +kernel
theorem dX0_findMend_83 : decode cX0_findMend 83 = .ok (.iload_n 2, 1) := by decide +kernel
theorem dX0_findMend_84 : decode cX0_findMend 84 = .ok (.iload_n 3, 1) := by decide +kernel
theorem dX0_findMend_85 : decode cX0_findMend 85 = .ok (.invokevirtual 352, 3) := by decide +kernel
theorem dX0_findMend_88 : decode cX0_findMend 88 = .ok (.ifCond .eq 5, 3) := by decide +kernel
theorem dX0_findMend_91 : decode cX0_findMend 91 = .ok (.iconst 1, 1) := by decide +kernel
theorem dX0_findMend_92 : decode cX0_findMend 92 = .ok (.ireturn, 1) := by decide +kernel
theorem dX0_findMend_93 : decode cX0_findMend 93 = .ok (.iinc 6 1, 3) := by decide +kernel
theorem dX0_findMend_96 : decode cX0_findMend 96 = .ok (.goto (-50), 3) := by decide +kernel
theorem dX0_findMend_99 : decode cX0_findMend 99 = .ok (.iinc 5 1, 3) := by decide +kernel
theorem dX0_findMend_102 : decode cX0_findMend 102 = .ok (.goto (-65), 3) := by decide +kernel
theorem dX0_findMend_105 : decode cX0_findMend 105 = .ok (.iconst 0, 1) := by decide +kernel
theorem dX0_findMend_106 : decode cX0_findMend 106 = .ok (.ireturn, 1) := by decide +kernel
abbrev cX0_isEnough : ByteArray := prog_1_method_46_code
def yX0_isEnough : MethodName := ⟨RX0, "isEnough", "(LShellBeach$Image;II)Z"⟩
theorem dX0_isEnough_0 : decode cX0_isEnough 0 = .ok (.iconst 0, 1) := by decide +kernel
theorem dX0_isEnough_1 : decode cX0_isEnough 1 = .ok (.istore 4, 2) := by decide +kernel
theorem dX0_isEnough_3 : decode cX0_isEnough 3 = .ok (.iload 4, 2) := by decide +kernel
theorem dX0_isEnough_5 : decode cX0_isEnough 5 = .ok (.iload_n 2, 1) := by decide +kernel
theorem dX0_isEnough_6 : decode cX0_isEnough 6 = .ok (.if_icmp .ge 13, 3) := by decide +kernel
theorem dX0_isEnough_9 : decode cX0_isEnough 9 = .ok (.aload_n 0, 1) := by decide +kernel
theorem dX0_isEnough_10 : decode cX0_isEnough 10 = .ok (.invokevirtual 255, 3) := by decide +kernel
theorem dX0_isEnough_13 : decode cX0_isEnough 13 = .ok (.iinc 4 1, 3) := by decide +kernel
theorem dX0_isEnough_16 : decode cX0_isEnough 16 = .ok (.goto (-13), 3) := by decide +kernel
theorem dX0_isEnough_19 : decode cX0_isEnough 19 = .ok (.aload_n 0, 1) := by decide +kernel
theorem dX0_isEnough_20 : decode cX0_isEnough 20 = .ok (.invokevirtual 327, 3) := by decide +kernel
theorem dX0_isEnough_23 : decode cX0_isEnough 23 = .ok (.iload_n 3, 1) := by decide +kernel
theorem dX0_isEnough_24 : decode cX0_isEnough 24 = .ok (.if_icmp .lt 7, 3) := by decide +kernel
theorem dX0_isEnough_27 : decode cX0_isEnough 27 = .ok (.iconst 1, 1) := by decide +kernel
theorem dX0_isEnough_28 : decode cX0_isEnough 28 = .ok (.goto 4, 3) := by decide +kernel
theorem dX0_isEnough_31 : decode cX0_isEnough 31 = .ok (.iconst 0, 1) := by decide +kernel
theorem dX0_isEnough_32 : decode cX0_isEnough 32 = .ok (.istore 4, 2) := by decide +kernel
theorem dX0_isEnough_34 : decode cX0_isEnough 34 = .ok (.aload_n 1, 1) := by decide +kernel
theorem dX0_isEnough_35 : decode cX0_isEnough 35 = .ok (.invokevirtual 330, 3) := by decide +kernel
theorem dX0_isEnough_38 : decode cX0_isEnough 38 = .ok (.iload 4, 2) := by decide +kernel
theorem dX0_isEnough_40 : decode cX0_isEnough 40 = .ok (.ireturn, 1) := by decide +kernel
abbrev cX0_mends : ByteArray := prog_1_method_47_code
def yX0_mends : MethodName := ⟨RX0, "mends", "(LShellBeach$Image;LShellBeach$Habit;IIII)Z"⟩
theorem dX0_mends_0 : decode cX0_mends 0 = .ok (.aload_n 2, 1) := by decide +kernel
theorem dX0_mends_1 : decode cX0_mends 1 = .ok (.getfield 335, 3) := by decide +kernel
theorem dX0_mends_4 : decode cX0_mends 4 = .ok (.iload_n 3, 1) := by decide +kernel
theorem dX0_mends_5 : decode cX0_mends 5 = .ok (.invokevirtual 17, 3) := by decide +kernel
theorem dX0_mends_8 : decode cX0_mends 8 = .ok (.checkcast 338, 3) := by decide +kernel
theorem dX0_mends_11 : decode cX0_mends 11 = .ok (.astore 7, 2) := by decide +kernel
theorem dX0_mends_13 : decode cX0_mends 13 = .ok (.aload 7, 2) := by decide +kernel
theorem dX0_mends_15 : decode cX0_mends 15 = .ok (.getfield 340, 3) := by decide +kernel
theorem dX0_mends_18 : decode cX0_mends 18 = .ok (.iload 4, 2) := by decide +kernel
theorem dX0_mends_20 : decode cX0_mends 20 = .ok (.iadd, 1) := by decide +kernel
theorem dX0_mends_21 : decode cX0_mends 21 = .ok (.invokestatic 217, 3) := by decide +kernel
theorem dX0_mends_24 : decode cX0_mends 24 = .ok (.ifCond .ne 5, 3) := by decide +kernel
theorem dX0_mends_27 : decode cX0_mends 27 = .ok (.iconst 0, 1) := by decide +kernel
theorem dX0_mends_28 : decode cX0_mends 28 = .ok (.ireturn, 1) := by decide +kernel
theorem dX0_mends_29 : decode cX0_mends 29 = .ok (.aload 7, 2) := by decide +kernel
theorem dX0_mends_31 : decode cX0_mends 31 = .ok (.dup, 1) := by decide +kernel
theorem dX0_mends_32 : decode cX0_mends 32 = .ok (.getfield 340, 3) := by decide +kernel
theorem dX0_mends_35 : decode cX0_mends 35 = .ok (.iload 4, 2) := by decide +kernel
theorem dX0_mends_37 : decode cX0_mends 37 = .ok (.iadd, 1) := by decide +kernel
theorem dX0_mends_38 : decode cX0_mends 38 = .ok (.putfield 340, 3) := by decide +kernel
theorem dX0_mends_41 : decode cX0_mends 41 = .ok (.aload_n 0, 1) := by decide +kernel
theorem dX0_mends_42 : decode cX0_mends 42 = .ok (.aload_n 1, 1) := by decide +kernel
theorem dX0_mends_43 : decode cX0_mends 43 = .ok (.iload 5, 2) := by decide +kernel
theorem dX0_mends_45 : decode cX0_mends 45 = .ok (.iload 6, 2) := by decide +kernel
theorem dX0_mends_47 : decode cX0_mends 47 = .ok (.invokevirtual 341, 3) := by decide +kernel
theorem dX0_mends_50 : decode cX0_mends 50 = .ok (.istore 8, 2) := by decide +kernel
theorem dX0_mends_52 : decode cX0_mends 52 = .ok (.aload 7, 2) := by decide +kernel
theorem dX0_mends_54 : decode cX0_mends 54 = .ok (.dup, 1) := by decide +kernel
theorem dX0_mends_55 : decode cX0_mends 55 = .ok (.getfield 340, 3) := by decide +kernel
theorem dX0_mends_58 : decode cX0_mends 58 = .ok (.iload 4, 2) := by decide +kernel
theorem dX0_mends_60 : decode cX0_mends 60 = .ok (.isub, 1) := by decide +kernel
theorem dX0_mends_61 : decode cX0_mends 61 = .ok (.putfield 340, 3) := by decide +kernel
theorem dX0_mends_64 : decode cX0_mends 64 = .ok (.aload_n 0, 1) := by decide +kernel
theorem dX0_mends_65 : decode cX0_mends 65 = .ok (.iload 4, 2) := by decide +kernel
theorem dX0_mends_67 : decode cX0_mends 67 = .ok (.putfield 345, 3) := by decide +kernel
theorem dX0_mends_70 : decode cX0_mends 70 = .ok (.aload_n 0, 1) := by decide +kernel
theorem dX0_mends_71 : decode cX0_mends 71 = .ok (.iload_n 3, 1) := by decide +kernel
theorem dX0_mends_72 : decode cX0_mends 72 = .ok (.putfield 348, 3) := by decide +kernel
theorem dX0_mends_75 : decode cX0_mends 75 = .ok (.iload 8, 2) := by decide +kernel
theorem dX0_mends_77 : decode cX0_mends 77 = .ok (.ireturn, 1) := by decide +kernel
abbrev cX0_act : ByteArray := prog_1_method_50_code
def yX0_act : MethodName := ⟨RX0, "act", "(III)I"⟩
theorem dX0_act_0 : decode cX0_act 0 = .ok (.aload_n 0, 1) := by decide +kernel
theorem dX0_act_1 : decode cX0_act 1 = .ok (.iconst 0, 1) := by decide +kernel
theorem dX0_act_2 : decode cX0_act 2 = .ok (.putfield 97, 3) := by decide +kernel
theorem dX0_act_5 : decode cX0_act 5 = .ok (.aload_n 0, 1) := by decide +kernel
theorem dX0_act_6 : decode cX0_act 6 = .ok (.iload_n 1, 1) := by decide +kernel
theorem dX0_act_7 : decode cX0_act 7 = .ok (.invokevirtual 128, 3) := by decide +kernel
theorem dX0_act_10 : decode cX0_act 10 = .ok (.astore 4, 2) := by decide +kernel
theorem dX0_act_12 : decode cX0_act 12 = .ok (.aload 4, 2) := by decide +kernel
theorem dX0_act_14 : decode cX0_act 14 = .ok (.ifnull 12, 3) := by decide +kernel
theorem dX0_act_17 : decode cX0_act 17 = .ok (.iload_n 2, 1) := by decide +kernel
theorem dX0_act_18 : decode cX0_act 18 = .ok (.iconst 0, 1) := by decide +kernel
theorem dX0_act_19 : decode cX0_act 19 = .ok (.iconst 2, 1) := by decide +kernel
theorem dX0_act_20 : decode cX0_act 20 = .ok (.invokestatic 3, 3) := by decide +kernel
theorem dX0_act_23 : decode cX0_act 23 = .ok (.ifCond .ne 5, 3) := by decide +kernel
theorem dX0_act_26 : decode cX0_act 26 = .ok (.iconst 0, 1) := by decide +kernel
theorem dX0_act_27 : decode cX0_act 27 = .ok (.ireturn, 1) := by decide +kernel
theorem dX0_act_28 : decode cX0_act 28 = .ok (.iload_n 2, 1) := by decide +kernel
theorem dX0_act_29 : decode cX0_act 29 = .ok (.ifCond .ne 15, 3) := by decide +kernel
theorem dX0_act_32 : decode cX0_act 32 = .ok (.aload 4, 2) := by decide +kernel
theorem dX0_act_34 : decode cX0_act 34 = .ok (.invokevirtual 168, 3) := by decide +kernel
theorem dX0_act_37 : decode cX0_act 37 = .ok (.iload_n 3, 1) := by decide +kernel
theorem dX0_act_38 : decode cX0_act 38 = .ok (.invokevirtual 360, 3) := by decide +kernel
theorem dX0_act_41 : decode cX0_act 41 = .ok (.goto 29, 3) := by decide +kernel
theorem dX0_act_44 : decode cX0_act 44 = .ok (.iload_n 2, 1) := by decide +kernel
theorem dX0_act_45 : decode cX0_act 45 = .ok (.iconst 1, 1) := by decide +kernel
theorem dX0_act_46 : decode cX0_act 46 = .ok (.if_icmp .ne 15, 3) := by decide +kernel
theorem dX0_act_49 : decode cX0_act 49 = .ok (.aload 4, 2) := by decide +kernel
theorem dX0_act_51 : decode cX0_act 51 = .ok (.invokevirtual 168, 3) := by decide +kernel
theorem dX0_act_54 : decode cX0_act 54 = .ok (.iload_n 3, 1) := by decide +kernel
theorem dX0_act_55 : decode cX0_act 55 = .ok (.invokevirtual 363, 3) := by decide +kernel
theorem dX0_act_58 : decode cX0_act 58 = .ok (.goto 12, 3) := by decide +kernel
theorem dX0_act_61 : decode cX0_act 61 = .ok (.aload 4, 2) := by decide +kernel
theorem dX0_act_63 : decode cX0_act 63 = .ok (.invokevirtual 168, 3) := by decide +kernel
theorem dX0_act_66 : decode cX0_act 66 = .ok (.iload_n 3, 1) := by decide +kernel
theorem dX0_act_67 : decode cX0_act 67 = .ok (.invokevirtual 366, 3) := by decide +kernel
theorem dX0_act_70 : decode cX0_act 70 = .ok (.ireturn, 1) := by decide +kernel
abbrev cX0_body : ByteArray := prog_1_method_7_code
def yX0_body : MethodName := ⟨RX0, "body", "(I)V"⟩
theorem dX0_body_0 : decode cX0_body 0 = .ok (.aload_n 0, 1) := by decide +kernel
theorem dX0_body_1 : decode cX0_body 1 = .ok (.getfield 97, 3) := by decide +kernel
theorem dX0_body_4 : decode cX0_body 4 = .ok (.aload_n 0, 1) := by decide +kernel
theorem dX0_body_5 : decode cX0_body 5 = .ok (.getfield 30, 3) := by decide +kernel
theorem dX0_body_8 : decode cX0_body 8 = .ok (.arraylength, 1) := by decide +kernel
theorem dX0_body_9 : decode cX0_body 9 = .ok (.if_icmp .ge 13, 3) := by decide +kernel
theorem dX0_body_12 : decode cX0_body 12 = .ok (.aload_n 0, 1) := by decide +kernel
theorem dX0_body_13 : decode cX0_body 13 = .ok (.getfield 30, 3) := by decide +kernel
theorem dX0_body_16 : decode cX0_body 16 = .ok (.aload_n 0, 1) := by decide +kernel
theorem dX0_body_17 : decode cX0_body 17 = .ok (.getfield 97, 3) := by decide +kernel
theorem dX0_body_20 : decode cX0_body 20 = .ok (.iload_n 1, 1) := by decide +kernel
theorem dX0_body_21 : decode cX0_body 21 = .ok (.iastore, 1) := by decide +kernel
theorem dX0_body_22 : decode cX0_body 22 = .ok (.aload_n 0, 1) := by decide +kernel
theorem dX0_body_23 : decode cX0_body 23 = .ok (.dup, 1) := by decide +kernel
theorem dX0_body_24 : decode cX0_body 24 = .ok (.getfield 97, 3) := by decide +kernel
theorem dX0_body_27 : decode cX0_body 27 = .ok (.iconst 1, 1) := by decide +kernel
theorem dX0_body_28 : decode cX0_body 28 = .ok (.iadd, 1) := by decide +kernel
theorem dX0_body_29 : decode cX0_body 29 = .ok (.putfield 97, 3) := by decide +kernel
theorem dX0_body_32 : decode cX0_body 32 = .ok (.return_, 1) := by decide +kernel
abbrev cX0_trace : ByteArray := prog_1_method_51_code
def yX0_trace : MethodName := ⟨RX0, "trace", "(I)I"⟩
theorem dX0_trace_0 : decode cX0_trace 0 = .ok (.iload_n 1, 1) := by decide +kernel
theorem dX0_trace_1 : decode cX0_trace 1 = .ok (.iconst 0, 1) := by decide +kernel
theorem dX0_trace_2 : decode cX0_trace 2 = .ok (.aload_n 0, 1) := by decide +kernel
theorem dX0_trace_3 : decode cX0_trace 3 = .ok (.getfield 30, 3) := by decide +kernel
theorem dX0_trace_6 : decode cX0_trace 6 = .ok (.arraylength, 1) := by decide +kernel
theorem dX0_trace_7 : decode cX0_trace 7 = .ok (.iconst 1, 1) := by decide +kernel
theorem dX0_trace_8 : decode cX0_trace 8 = .ok (.isub, 1) := by decide +kernel
theorem dX0_trace_9 : decode cX0_trace 9 = .ok (.invokestatic 3, 3) := by decide +kernel
theorem dX0_trace_12 : decode cX0_trace 12 = .ok (.ifCond .eq 20, 3) := by decide +kernel
theorem dX0_trace_15 : decode cX0_trace 15 = .ok (.iload_n 1, 1) := by decide +kernel
theorem dX0_trace_16 : decode cX0_trace 16 = .ok (.aload_n 0, 1) := by decide +kernel
theorem dX0_trace_17 : decode cX0_trace 17 = .ok (.getfield 97, 3) := by decide +kernel
theorem dX0_trace_20 : decode cX0_trace 20 = .ok (.if_icmp .ge 12, 3) := by decide +kernel
theorem dX0_trace_23 : decode cX0_trace 23 = .ok (.aload_n 0, 1) := by decide +kernel
theorem dX0_trace_24 : decode cX0_trace 24 = .ok (.getfield 30, 3) := by decide +kernel
theorem dX0_trace_27 : decode cX0_trace 27 = .ok (.iload_n 1, 1) := by decide +kernel
theorem dX0_trace_28 : decode cX0_trace 28 = .ok (.iaload, 1) := by decide +kernel
theorem dX0_trace_29 : decode cX0_trace 29 = .ok (.goto 4, 3) := by decide +kernel
theorem dX0_trace_32 : decode cX0_trace 32 = .ok (.iconst (-1), 1) := by decide +kernel
theorem dX0_trace_33 : decode cX0_trace 33 = .ok (.ireturn, 1) := by decide +kernel
abbrev cX0_as : ByteArray := prog_1_method_52_code
def yX0_as : MethodName := ⟨RX0, "as", "(II)I"⟩
theorem dX0_as_0 : decode cX0_as 0 = .ok (.aload_n 0, 1) := by decide +kernel
theorem dX0_as_1 : decode cX0_as 1 = .ok (.iload_n 1, 1) := by decide +kernel
theorem dX0_as_2 : decode cX0_as 2 = .ok (.invokevirtual 128, 3) := by decide +kernel
theorem dX0_as_5 : decode cX0_as 5 = .ok (.astore_n 3, 1) := by decide +kernel
theorem dX0_as_6 : decode cX0_as 6 = .ok (.aload_n 3, 1) := by decide +kernel
theorem dX0_as_7 : decode cX0_as 7 = .ok (.ifnull 13, 3) := by decide +kernel
theorem dX0_as_10 : decode cX0_as 10 = .ok (.iload_n 2, 1) := by decide +kernel
theorem dX0_as_11 : decode cX0_as 11 = .ok (.iconst 0, 1) := by decide +kernel
theorem dX0_as_12 : decode cX0_as 12 = .ok (.bipush 6, 2) := by decide +kernel
theorem dX0_as_14 : decode cX0_as 14 = .ok (.invokestatic 3, 3) := by decide +kernel
theorem dX0_as_17 : decode cX0_as 17 = .ok (.ifCond .ne 5, 3) := by decide +kernel
theorem dX0_as_20 : decode cX0_as 20 = .ok (.iconst (-1), 1) := by decide +kernel
theorem dX0_as_21 : decode cX0_as 21 = .ok (.ireturn, 1) := by decide +kernel
theorem dX0_as_22 : decode cX0_as 22 = .ok (.aload_n 3, 1) := by decide +kernel
theorem dX0_as_23 : decode cX0_as 23 = .ok (.invokevirtual 168, 3) := by decide +kernel
theorem dX0_as_26 : decode cX0_as 26 = .ok (.iload_n 2, 1) := by decide +kernel
theorem dX0_as_27 : decode cX0_as 27 = .ok (.invokevirtual 369, 3) := by decide +kernel
theorem dX0_as_30 : decode cX0_as 30 = .ok (.ifCond .eq 10, 3) := by decide +kernel
theorem dX0_as_33 : decode cX0_as 33 = .ok (.aload_n 3, 1) := by decide +kernel
theorem dX0_as_34 : decode cX0_as 34 = .ok (.getfield 177, 3) := by decide +kernel
theorem dX0_as_37 : decode cX0_as 37 = .ok (.goto 5, 3) := by decide +kernel
theorem dX0_as_40 : decode cX0_as 40 = .ok (.bipush (-6), 2) := by decide +kernel
theorem dX0_as_42 : decode cX0_as 42 = .ok (.ireturn, 1) := by decide +kernel
abbrev cX0_image : ByteArray := prog_1_method_53_code
def yX0_image : MethodName := ⟨RX0, "image", "()I"⟩
theorem dX0_image_0 : decode cX0_image 0 = .ok (.aload_n 0, 1) := by decide +kernel
theorem dX0_image_1 : decode cX0_image 1 = .ok (.new 331, 3) := by decide +kernel
theorem dX0_image_4 : decode cX0_image 4 = .ok (.dup, 1) := by decide +kernel
theorem dX0_image_5 : decode cX0_image 5 = .ok (.aload_n 0, 1) := by decide +kernel
theorem dX0_image_6 : decode cX0_image 6 = .ok (.invokespecial 351, 3) := by decide +kernel
theorem dX0_image_9 : decode cX0_image 9 = .ok (.putfield 372, 3) := by decide +kernel
theorem dX0_image_12 : decode cX0_image 12 = .ok (.aload_n 0, 1) := by decide +kernel
theorem dX0_image_13 : decode cX0_image 13 = .ok (.getfield 246, 3) := by decide +kernel
theorem dX0_image_16 : decode cX0_image 16 = .ok (.ireturn, 1) := by decide +kernel
abbrev cX0_undo : ByteArray := prog_1_method_54_code
def yX0_undo : MethodName := ⟨RX0, "undo", "()I"⟩
theorem dX0_undo_0 : decode cX0_undo 0 = .ok (.aload_n 0, 1) := by decide +kernel
theorem dX0_undo_1 : decode cX0_undo 1 = .ok (.getfield 372, 3) := by decide +kernel
theorem dX0_undo_4 : decode cX0_undo 4 = .ok (.ifnonnull 6, 3) := by decide +kernel
theorem dX0_undo_7 : decode cX0_undo 7 = .ok (.bipush (-3), 2) := by decide +kernel
theorem dX0_undo_9 : decode cX0_undo 9 = .ok (.ireturn, 1) := by decide +kernel
theorem dX0_undo_10 : decode cX0_undo 10 = .ok (.aload_n 0, 1) := by decide +kernel
theorem dX0_undo_11 : decode cX0_undo 11 = .ok (.getfield 372, 3) := by decide +kernel
theorem dX0_undo_14 : decode cX0_undo 14 = .ok (.invokevirtual 330, 3) := by decide +kernel
theorem dX0_undo_17 : decode cX0_undo 17 = .ok (.aload_n 0, 1) := by decide +kernel
theorem dX0_undo_18 : decode cX0_undo 18 = .ok (.getfield 246, 3) := by decide +kernel
theorem dX0_undo_21 : decode cX0_undo 21 = .ok (.ireturn, 1) := by decide +kernel
abbrev cX0_count : ByteArray := prog_1_method_55_code
def yX0_count : MethodName := ⟨RX0, "count", "(I)I"⟩
theorem dX0_count_0 : decode cX0_count 0 = .ok (.iconst 0, 1) := by decide +kernel
theorem dX0_count_1 : decode cX0_count 1 = .ok (.istore_n 2, 1) := by decide +kernel
theorem dX0_count_2 : decode cX0_count 2 = .ok (.iload_n 1, 1) := by decide +kernel
theorem dX0_count_3 : decode cX0_count 3 = .ok (.tableswitch 238 0 9 #[53, 61, 69, 77, 85, 90, 136, 182, 228, 233], 53) := by decide +kernel
theorem dX0_count_56 : decode cX0_count 56 = .ok (.aload_n 0, 1) := by decide +kernel
theorem dX0_count_57 : decode cX0_count 57 = .ok (.getfield 7, 3) := by decide +kernel
theorem dX0_count_60 : decode cX0_count 60 = .ok (.invokevirtual 11, 3) := by decide +kernel
theorem dX0_count_63 : decode cX0_count 63 = .ok (.ireturn, 1) := by decide +kernel
theorem dX0_count_64 : decode cX0_count 64 = .ok (.aload_n 0, 1) := by decide +kernel
theorem dX0_count_65 : decode cX0_count 65 = .ok (.getfield 34, 3) := by decide +kernel
theorem dX0_count_68 : decode cX0_count 68 = .ok (.invokevirtual 11, 3) := by decide +kernel
theorem dX0_count_71 : decode cX0_count 71 = .ok (.ireturn, 1) := by decide +kernel
theorem dX0_count_72 : decode cX0_count 72 = .ok (.aload_n 0, 1) := by decide +kernel
theorem dX0_count_73 : decode cX0_count 73 = .ok (.getfield 55, 3) := by decide +kernel
theorem dX0_count_76 : decode cX0_count 76 = .ok (.invokevirtual 11, 3) := by decide +kernel
theorem dX0_count_79 : decode cX0_count 79 = .ok (.ireturn, 1) := by decide +kernel
theorem dX0_count_80 : decode cX0_count 80 = .ok (.aload_n 0, 1) := by decide +kernel
theorem dX0_count_81 : decode cX0_count 81 = .ok (.getfield 83, 3) := by decide +kernel
theorem dX0_count_84 : decode cX0_count 84 = .ok (.invokevirtual 11, 3) := by decide +kernel
theorem dX0_count_87 : decode cX0_count 87 = .ok (.ireturn, 1) := by decide +kernel
theorem dX0_count_88 : decode cX0_count 88 = .ok (.aload_n 0, 1) := by decide +kernel
theorem dX0_count_89 : decode cX0_count 89 = .ok (.getfield 246, 3) := by decide +kernel
theorem dX0_count_92 : decode cX0_count 92 = .ok (.ireturn, 1) := by decide +kernel
theorem dX0_count_93 : decode cX0_count 93 = .ok (.iconst 0, 1) := by decide +kernel
theorem dX0_count_94 : decode cX0_count 94 = .ok (.istore_n 3, 1) := by decide +kernel
theorem dX0_count_95 : decode cX0_count 95 = .ok (.iload_n 3, 1) := by decide +kernel
theorem dX0_count_96 : decode cX0_count 96 = .ok (.aload_n 0, 1) := by decide +kernel
theorem dX0_count_97 : decode cX0_count 97 = .ok (.getfield 34, 3) := by decide +kernel
theorem dX0_count_100 : decode cX0_count 100 = .ok (.invokevirtual 11, 3) := by decide +kernel
theorem dX0_count_103 : decode cX0_count 103 = .ok (.if_icmp .ge 34, 3) := by decide +kernel
theorem dX0_count_106 : decode cX0_count 106 = .ok (.iload_n 2, 1) := by decide +kernel
theorem dX0_count_107 : decode cX0_count 107 = .ok (.aload_n 0, 1) := by decide +kernel
theorem dX0_count_108 : decode cX0_count 108 = .ok (.getfield 34, 3) := by decide +kernel
theorem dX0_count_111 : decode cX0_count 111 = .ok (.iload_n 3, 1) := by decide +kernel
theorem dX0_count_112 : decode cX0_count 112 = .ok (.invokevirtual 17, 3) := by decide +kernel
theorem dX0_count_115 : decode cX0_count 115 = .ok (.checkcast 70, 3) := by decide +kernel
theorem dX0_count_118 : decode cX0_count 118 = .ok (.invokevirtual 240, 3) := by decide +kernel
theorem dX0_count_121 : decode cX0_count 121 = .ok (.ifCond .eq 7, 3) := by decide +kernel
theorem dX0_count_124 : decode cX0_count 124 = .ok (.iconst 1, 1) := by decide +kernel
theorem dX0_count_125 : decode cX0_count 125 = .ok (.goto 4, 3) := by decide +kernel
theorem dX0_count_128 : decode cX0_count 128 = .ok (.iconst 0, 1) := by decide +kernel
theorem dX0_count_129 : decode cX0_count 129 = .ok (.iadd, 1) := by decide +kernel
theorem dX0_count_130 : decode cX0_count 130 = .ok (.istore_n 2, 1) := by decide +kernel
theorem dX0_count_131 : decode cX0_count 131 = .ok (.iinc 3 1, 3) := by decide +kernel
theorem dX0_count_134 : decode cX0_count 134 = .ok (.goto (-39), 3) := by decide +kernel
theorem dX0_count_137 : decode cX0_count 137 = .ok (.iload_n 2, 1) := by decide +kernel
theorem dX0_count_138 : decode cX0_count 138 = .ok (.ireturn, 1) := by decide +kernel
theorem dX0_count_139 : decode cX0_count 139 = .ok (.iconst 0, 1) := by decide +kernel
theorem dX0_count_140 : decode cX0_count 140 = .ok (.istore_n 3, 1) := by decide +kernel
theorem dX0_count_141 : decode cX0_count 141 = .ok (.iload_n 3, 1) := by decide +kernel
theorem dX0_count_142 : decode cX0_count 142 = .ok (.aload_n 0, 1) := by decide +kernel
theorem dX0_count_143 : decode cX0_count 143 = .ok (.getfield 34, 3) := by decide +kernel
theorem dX0_count_146 : decode cX0_count 146 = .ok (.invokevirtual 11, 3) := by decide +kernel
theorem dX0_count_149 : decode cX0_count 149 = .ok (.if_icmp .ge 34, 3) := by decide +kernel
theorem dX0_count_152 : decode cX0_count 152 = .ok (.iload_n 2, 1) := by decide +kernel
theorem dX0_count_153 : decode cX0_count 153 = .ok (.aload_n 0, 1) := by decide +kernel
theorem dX0_count_154 : decode cX0_count 154 = .ok (.getfield 34, 3) := by decide +kernel
theorem dX0_count_157 : decode cX0_count 157 = .ok (.iload_n 3, 1) := by decide +kernel
theorem dX0_count_158 : decode cX0_count 158 = .ok (.invokevirtual 17, 3) := by decide +kernel
theorem dX0_count_161 : decode cX0_count 161 = .ok (.checkcast 70, 3) := by decide +kernel
theorem dX0_count_164 : decode cX0_count 164 = .ok (.invokevirtual 202, 3) := by decide +kernel
theorem dX0_count_167 : decode cX0_count 167 = .ok (.ifCond .eq 7, 3) := by decide +kernel
theorem dX0_count_170 : decode cX0_count 170 = .ok (.iconst 1, 1) := by decide +kernel
theorem dX0_count_171 : decode cX0_count 171 = .ok (.goto 4, 3) := by decide +kernel
theorem dX0_count_174 : decode cX0_count 174 = .ok (.iconst 0, 1) := by decide +kernel
theorem dX0_count_175 : decode cX0_count 175 = .ok (.iadd, 1) := by decide +kernel
theorem dX0_count_176 : decode cX0_count 176 = .ok (.istore_n 2, 1) := by decide +kernel
theorem dX0_count_177 : decode cX0_count 177 = .ok (.iinc 3 1, 3) := by decide +kernel
theorem dX0_count_180 : decode cX0_count 180 = .ok (.goto (-39), 3) := by decide +kernel
theorem dX0_count_183 : decode cX0_count 183 = .ok (.iload_n 2, 1) := by decide +kernel
theorem dX0_count_184 : decode cX0_count 184 = .ok (.ireturn, 1) := by decide +kernel
theorem dX0_count_185 : decode cX0_count 185 = .ok (.iconst 0, 1) := by decide +kernel
theorem dX0_count_186 : decode cX0_count 186 = .ok (.istore_n 3, 1) := by decide +kernel
theorem dX0_count_187 : decode cX0_count 187 = .ok (.iload_n 3, 1) := by decide +kernel
theorem dX0_count_188 : decode cX0_count 188 = .ok (.aload_n 0, 1) := by decide +kernel
theorem dX0_count_189 : decode cX0_count 189 = .ok (.getfield 34, 3) := by decide +kernel
theorem dX0_count_192 : decode cX0_count 192 = .ok (.invokevirtual 11, 3) := by decide +kernel
theorem dX0_count_195 : decode cX0_count 195 = .ok (.if_icmp .ge 34, 3) := by decide +kernel
theorem dX0_count_198 : decode cX0_count 198 = .ok (.iload_n 2, 1) := by decide +kernel
theorem dX0_count_199 : decode cX0_count 199 = .ok (.aload_n 0, 1) := by decide +kernel
theorem dX0_count_200 : decode cX0_count 200 = .ok (.getfield 34, 3) := by decide +kernel
theorem dX0_count_203 : decode cX0_count 203 = .ok (.iload_n 3, 1) := by decide +kernel
theorem dX0_count_204 : decode cX0_count 204 = .ok (.invokevirtual 17, 3) := by decide +kernel
theorem dX0_count_207 : decode cX0_count 207 = .ok (.checkcast 70, 3) := by decide +kernel
theorem dX0_count_210 : decode cX0_count 210 = .ok (.getfield 143, 3) := by decide +kernel
theorem dX0_count_213 : decode cX0_count 213 = .ok (.ifCond .eq 7, 3) := by decide +kernel
theorem dX0_count_216 : decode cX0_count 216 = .ok (.iconst 1, 1) := by decide +kernel
theorem dX0_count_217 : decode cX0_count 217 = .ok (.goto 4, 3) := by decide +kernel
theorem dX0_count_220 : decode cX0_count 220 = .ok (.iconst 0, 1) := by decide +kernel
theorem dX0_count_221 : decode cX0_count 221 = .ok (.iadd, 1) := by decide +kernel
theorem dX0_count_222 : decode cX0_count 222 = .ok (.istore_n 2, 1) := by decide +kernel
theorem dX0_count_223 : decode cX0_count 223 = .ok (.iinc 3 1, 3) := by decide +kernel
theorem dX0_count_226 : decode cX0_count 226 = .ok (.goto (-39), 3) := by decide +kernel
theorem dX0_count_229 : decode cX0_count 229 = .ok (.iload_n 2, 1) := by decide +kernel
theorem dX0_count_230 : decode cX0_count 230 = .ok (.ireturn, 1) := by decide +kernel
theorem dX0_count_231 : decode cX0_count 231 = .ok (.aload_n 0, 1) := by decide +kernel
theorem dX0_count_232 : decode cX0_count 232 = .ok (.getfield 205, 3) := by decide +kernel
theorem dX0_count_235 : decode cX0_count 235 = .ok (.ireturn, 1) := by decide +kernel
theorem dX0_count_236 : decode cX0_count 236 = .ok (.aload_n 0, 1) := by decide +kernel
theorem dX0_count_237 : decode cX0_count 237 = .ok (.getfield 97, 3) := by decide +kernel
theorem dX0_count_240 : decode cX0_count 240 = .ok (.ireturn, 1) := by decide +kernel
theorem dX0_count_241 : decode cX0_count 241 = .ok (.iconst (-1), 1) := by decide +kernel
theorem dX0_count_242 : decode cX0_count 242 = .ok (.ireturn, 1) := by decide +kernel
theorem q86 : (Jvm.Cond.initialized "ShellBeach") ∈ lw_all := lw_g (lw_at lw_m1 1 rfl) rfl
theorem q122 : (Jvm.Cond.instantiable "ShellBeach" (27 : Nat)) ∈ lw_all := lw_g (lw_at lw_m1 37 rfl) rfl
theorem q124 : (Jvm.Cond.instanceMethod ({ cls := "ShellBeach", name := "<init>", desc := "()V" } : Jvm.MethodName)) ∈ lw_all := lw_g (lw_at lw_m1 39 rfl) rfl
theorem q125 : (Jvm.Cond.code ({ cls := "ShellBeach", name := "<init>", desc := "()V" } : Jvm.MethodName) prog_1_method_5_code (1 : Nat) (Option.none : Option Jvm.ClassFile.FieldType)) ∈ lw_all := lw_g (lw_at lw_m1 40 rfl) rfl
theorem q126 : (Jvm.Cond.methodLink "ShellBeach" (23 : Nat) ({ cls := "java/lang/Object", name := "<init>", desc := "()V" } : Jvm.MethodName)) ∈ lw_all := lw_g (lw_at lw_m1 41 rfl) rfl
theorem q129 : (Jvm.Cond.classLink "ShellBeach" (12 : Nat) "java/util/ArrayList") ∈ lw_all := lw_g (lw_at lw_m1 44 rfl) rfl
theorem q131 : (Jvm.Cond.methodLink "ShellBeach" (29 : Nat) ({ cls := "java/util/ArrayList", name := "<init>", desc := "()V" } : Jvm.MethodName)) ∈ lw_all := lw_g (lw_at lw_m1 46 rfl) rfl
theorem q155 : (Jvm.Cond.classLink "ShellBeach" (48 : Nat) "ShellBeach$Case") ∈ lw_all := lw_g (lw_at lw_m1 70 rfl) rfl
theorem q157 : (Jvm.Cond.methodLinkNest "ShellBeach" (50 : Nat) ({ cls := "ShellBeach$Case", name := "<init>", desc := "()V" } : Jvm.MethodName) "ShellBeach") ∈ lw_tbl := lw_at lw_m1 72 rfl
theorem q179 : (Jvm.Cond.classLink "ShellBeach" (58 : Nat) "ShellBeach$Reader") ∈ lw_all := lw_g (lw_at lw_m1 94 rfl) rfl
theorem q181 : (Jvm.Cond.methodLinkNest "ShellBeach" (60 : Nat) ({ cls := "ShellBeach$Reader", name := "<init>", desc := "(LShellBeach;)V" } : Jvm.MethodName) "ShellBeach") ∈ lw_tbl := lw_at lw_m1 96 rfl
theorem q204 : (Jvm.Cond.classLink "ShellBeach" (70 : Nat) "ShellBeach$Crab") ∈ lw_all := lw_g (lw_at lw_m1 119 rfl) rfl
theorem q206 : (Jvm.Cond.classLink "ShellBeach" (21 : Nat) "ShellBeach$Shell") ∈ lw_all := lw_g (lw_at lw_m1 121 rfl) rfl
theorem q209 : (Jvm.Cond.fieldLink "ShellBeach" (7 : Nat) "ShellBeach" "shells" "Ljava/util/ArrayList;") ∈ lw_all := lw_g (lw_at lw_m1 124 rfl) rfl
theorem q211 : (Jvm.Cond.fieldLink "ShellBeach" (97 : Nat) "ShellBeach" "ran" "I") ∈ lw_all := lw_g (lw_at lw_m1 126 rfl) rfl
theorem q212 : (Jvm.Cond.fieldLink "ShellBeach" (30 : Nat) "ShellBeach" "bodies" "[I") ∈ lw_all := lw_g (lw_at lw_m1 127 rfl) rfl
theorem q214 : (Jvm.Cond.fieldLink "ShellBeach" (34 : Nat) "ShellBeach" "crabs" "Ljava/util/ArrayList;") ∈ lw_all := lw_g (lw_at lw_m1 129 rfl) rfl
theorem q217 : (Jvm.Cond.fieldLink "ShellBeach" (246 : Nat) "ShellBeach" "tick" "I") ∈ lw_all := lw_g (lw_at lw_m1 132 rfl) rfl
theorem q219 : (Jvm.Cond.fieldLink "ShellBeach" (37 : Nat) "ShellBeach" "move" "I") ∈ lw_all := lw_g (lw_at lw_m1 134 rfl) rfl
theorem q222 : (Jvm.Cond.fieldLink "ShellBeach" (228 : Nat) "ShellBeach" "grow" "I") ∈ lw_all := lw_g (lw_at lw_m1 137 rfl) rfl
theorem q224 : (Jvm.Cond.fieldLink "ShellBeach" (41 : Nat) "ShellBeach" "exchanged" "[I") ∈ lw_all := lw_g (lw_at lw_m1 139 rfl) rfl
theorem q227 : (Jvm.Cond.fieldLink "ShellBeach" (44 : Nat) "ShellBeach" "tape" "[B") ∈ lw_all := lw_g (lw_at lw_m1 142 rfl) rfl
theorem q229 : (Jvm.Cond.fieldLink "ShellBeach" (205 : Nat) "ShellBeach" "taped" "I") ∈ lw_all := lw_g (lw_at lw_m1 144 rfl) rfl
theorem q231 : (Jvm.Cond.fieldLink "ShellBeach" (51 : Nat) "ShellBeach" "asked" "LShellBeach$Case;") ∈ lw_all := lw_g (lw_at lw_m1 146 rfl) rfl
theorem q232 : (Jvm.Cond.fieldLink "ShellBeach" (55 : Nat) "ShellBeach" "habits" "Ljava/util/ArrayList;") ∈ lw_all := lw_g (lw_at lw_m1 147 rfl) rfl
theorem q234 : (Jvm.Cond.fieldLink "ShellBeach" (63 : Nat) "ShellBeach" "reader" "LShellBeach$Reader;") ∈ lw_all := lw_g (lw_at lw_m1 149 rfl) rfl
theorem q235 : (Jvm.Cond.fieldLink "ShellBeach" (67 : Nat) "ShellBeach" "chained" "[I") ∈ lw_all := lw_g (lw_at lw_m1 150 rfl) rfl
theorem q236 : (Jvm.Cond.fieldLink "ShellBeach" (258 : Nat) "ShellBeach" "chainMany" "I") ∈ lw_all := lw_g (lw_at lw_m1 151 rfl) rfl
theorem q237 : (Jvm.Cond.fieldLink "ShellBeach" (261 : Nat) "ShellBeach" "chainPoints" "I") ∈ lw_all := lw_g (lw_at lw_m1 152 rfl) rfl
theorem q238 : (Jvm.Cond.fieldLink "ShellBeach" (264 : Nat) "ShellBeach" "chainEnd" "LShellBeach$Shell;") ∈ lw_all := lw_g (lw_at lw_m1 153 rfl) rfl
theorem q239 : (Jvm.Cond.fieldLink "ShellBeach" (72 : Nat) "ShellBeach" "told" "[LShellBeach$Crab;") ∈ lw_all := lw_g (lw_at lw_m1 154 rfl) rfl
theorem q240 : (Jvm.Cond.fieldLink "ShellBeach" (76 : Nat) "ShellBeach" "parted" "[LShellBeach$Shell;") ∈ lw_all := lw_g (lw_at lw_m1 155 rfl) rfl
theorem q241 : (Jvm.Cond.fieldLink "ShellBeach" (80 : Nat) "ShellBeach" "bestParted" "[LShellBeach$Shell;") ∈ lw_all := lw_g (lw_at lw_m1 156 rfl) rfl
theorem q242 : (Jvm.Cond.fieldLink "ShellBeach" (278 : Nat) "ShellBeach" "toldMany" "I") ∈ lw_all := lw_g (lw_at lw_m1 157 rfl) rfl
theorem q243 : (Jvm.Cond.fieldLink "ShellBeach" (291 : Nat) "ShellBeach" "bestPoints" "I") ∈ lw_all := lw_g (lw_at lw_m1 158 rfl) rfl
theorem q244 : (Jvm.Cond.fieldLink "ShellBeach" (285 : Nat) "ShellBeach" "calmMany" "I") ∈ lw_all := lw_g (lw_at lw_m1 159 rfl) rfl
theorem q245 : (Jvm.Cond.fieldLink "ShellBeach" (83 : Nat) "ShellBeach" "films" "Ljava/util/ArrayList;") ∈ lw_all := lw_g (lw_at lw_m1 160 rfl) rfl
theorem q246 : (Jvm.Cond.fieldLink "ShellBeach" (345 : Nat) "ShellBeach" "mendChange" "I") ∈ lw_all := lw_g (lw_at lw_m1 161 rfl) rfl
theorem q247 : (Jvm.Cond.fieldLink "ShellBeach" (348 : Nat) "ShellBeach" "mendTest" "I") ∈ lw_all := lw_g (lw_at lw_m1 162 rfl) rfl
theorem q248 : (Jvm.Cond.fieldLink "ShellBeach" (372 : Nat) "ShellBeach" "image" "LShellBeach$Image;") ∈ lw_all := lw_g (lw_at lw_m1 163 rfl) rfl
theorem q249 : (Jvm.Cond.laysFinal "ShellBeach" "ShellBeach" "shells" "Ljava/util/ArrayList;") ∈ lw_all := lw_g (lw_at lw_m1 164 rfl) rfl
theorem q250 : (Jvm.Cond.soleField "ShellBeach" "shells") ∈ lw_all := lw_g (lw_at lw_m1 165 rfl) rfl
theorem q251 : (Jvm.Cond.lays "ShellBeach" "ShellBeach" "ran" "I") ∈ lw_all := lw_g (lw_at lw_m1 166 rfl) rfl
theorem q252 : (Jvm.Cond.soleField "ShellBeach" "ran") ∈ lw_all := lw_g (lw_at lw_m1 167 rfl) rfl
theorem q253 : (Jvm.Cond.laysFinal "ShellBeach" "ShellBeach" "bodies" "[I") ∈ lw_all := lw_g (lw_at lw_m1 168 rfl) rfl
theorem q254 : (Jvm.Cond.soleField "ShellBeach" "bodies") ∈ lw_all := lw_g (lw_at lw_m1 169 rfl) rfl
theorem q255 : (Jvm.Cond.laysFinal "ShellBeach" "ShellBeach" "crabs" "Ljava/util/ArrayList;") ∈ lw_all := lw_g (lw_at lw_m1 170 rfl) rfl
theorem q256 : (Jvm.Cond.soleField "ShellBeach" "crabs") ∈ lw_all := lw_g (lw_at lw_m1 171 rfl) rfl
theorem q257 : (Jvm.Cond.lays "ShellBeach" "ShellBeach" "tick" "I") ∈ lw_all := lw_g (lw_at lw_m1 172 rfl) rfl
theorem q258 : (Jvm.Cond.soleField "ShellBeach" "tick") ∈ lw_all := lw_g (lw_at lw_m1 173 rfl) rfl
theorem q259 : (Jvm.Cond.lays "ShellBeach" "ShellBeach" "move" "I") ∈ lw_all := lw_g (lw_at lw_m1 174 rfl) rfl
theorem q260 : (Jvm.Cond.soleField "ShellBeach" "move") ∈ lw_all := lw_g (lw_at lw_m1 175 rfl) rfl
theorem q261 : (Jvm.Cond.lays "ShellBeach" "ShellBeach" "grow" "I") ∈ lw_all := lw_g (lw_at lw_m1 176 rfl) rfl
theorem q262 : (Jvm.Cond.soleField "ShellBeach" "grow") ∈ lw_all := lw_g (lw_at lw_m1 177 rfl) rfl
theorem q263 : (Jvm.Cond.laysFinal "ShellBeach" "ShellBeach" "exchanged" "[I") ∈ lw_all := lw_g (lw_at lw_m1 178 rfl) rfl
theorem q264 : (Jvm.Cond.soleField "ShellBeach" "exchanged") ∈ lw_all := lw_g (lw_at lw_m1 179 rfl) rfl
theorem q265 : (Jvm.Cond.laysFinal "ShellBeach" "ShellBeach" "tape" "[B") ∈ lw_all := lw_g (lw_at lw_m1 180 rfl) rfl
theorem q266 : (Jvm.Cond.soleField "ShellBeach" "tape") ∈ lw_all := lw_g (lw_at lw_m1 181 rfl) rfl
theorem q267 : (Jvm.Cond.lays "ShellBeach" "ShellBeach" "taped" "I") ∈ lw_all := lw_g (lw_at lw_m1 182 rfl) rfl
theorem q268 : (Jvm.Cond.soleField "ShellBeach" "taped") ∈ lw_all := lw_g (lw_at lw_m1 183 rfl) rfl
theorem q269 : (Jvm.Cond.laysFinal "ShellBeach" "ShellBeach" "asked" "LShellBeach$Case;") ∈ lw_all := lw_g (lw_at lw_m1 184 rfl) rfl
theorem q270 : (Jvm.Cond.soleField "ShellBeach" "asked") ∈ lw_all := lw_g (lw_at lw_m1 185 rfl) rfl
theorem q271 : (Jvm.Cond.laysFinal "ShellBeach" "ShellBeach" "habits" "Ljava/util/ArrayList;") ∈ lw_all := lw_g (lw_at lw_m1 186 rfl) rfl
theorem q272 : (Jvm.Cond.soleField "ShellBeach" "habits") ∈ lw_all := lw_g (lw_at lw_m1 187 rfl) rfl
theorem q273 : (Jvm.Cond.laysFinal "ShellBeach" "ShellBeach" "reader" "LShellBeach$Reader;") ∈ lw_all := lw_g (lw_at lw_m1 188 rfl) rfl
theorem q274 : (Jvm.Cond.soleField "ShellBeach" "reader") ∈ lw_all := lw_g (lw_at lw_m1 189 rfl) rfl
theorem q275 : (Jvm.Cond.laysFinal "ShellBeach" "ShellBeach" "chained" "[I") ∈ lw_all := lw_g (lw_at lw_m1 190 rfl) rfl
theorem q276 : (Jvm.Cond.soleField "ShellBeach" "chained") ∈ lw_all := lw_g (lw_at lw_m1 191 rfl) rfl
theorem q277 : (Jvm.Cond.lays "ShellBeach" "ShellBeach" "chainMany" "I") ∈ lw_all := lw_g (lw_at lw_m1 192 rfl) rfl
theorem q278 : (Jvm.Cond.soleField "ShellBeach" "chainMany") ∈ lw_all := lw_g (lw_at lw_m1 193 rfl) rfl
theorem q279 : (Jvm.Cond.lays "ShellBeach" "ShellBeach" "chainPoints" "I") ∈ lw_all := lw_g (lw_at lw_m1 194 rfl) rfl
theorem q280 : (Jvm.Cond.soleField "ShellBeach" "chainPoints") ∈ lw_all := lw_g (lw_at lw_m1 195 rfl) rfl
theorem q281 : (Jvm.Cond.lays "ShellBeach" "ShellBeach" "chainEnd" "LShellBeach$Shell;") ∈ lw_all := lw_g (lw_at lw_m1 196 rfl) rfl
theorem q282 : (Jvm.Cond.soleField "ShellBeach" "chainEnd") ∈ lw_all := lw_g (lw_at lw_m1 197 rfl) rfl
theorem q283 : (Jvm.Cond.laysFinal "ShellBeach" "ShellBeach" "told" "[LShellBeach$Crab;") ∈ lw_all := lw_g (lw_at lw_m1 198 rfl) rfl
theorem q284 : (Jvm.Cond.soleField "ShellBeach" "told") ∈ lw_all := lw_g (lw_at lw_m1 199 rfl) rfl
theorem q285 : (Jvm.Cond.laysFinal "ShellBeach" "ShellBeach" "parted" "[LShellBeach$Shell;") ∈ lw_all := lw_g (lw_at lw_m1 200 rfl) rfl
theorem q286 : (Jvm.Cond.soleField "ShellBeach" "parted") ∈ lw_all := lw_g (lw_at lw_m1 201 rfl) rfl
theorem q287 : (Jvm.Cond.laysFinal "ShellBeach" "ShellBeach" "bestParted" "[LShellBeach$Shell;") ∈ lw_all := lw_g (lw_at lw_m1 202 rfl) rfl
theorem q288 : (Jvm.Cond.soleField "ShellBeach" "bestParted") ∈ lw_all := lw_g (lw_at lw_m1 203 rfl) rfl
theorem q289 : (Jvm.Cond.lays "ShellBeach" "ShellBeach" "toldMany" "I") ∈ lw_all := lw_g (lw_at lw_m1 204 rfl) rfl
theorem q290 : (Jvm.Cond.soleField "ShellBeach" "toldMany") ∈ lw_all := lw_g (lw_at lw_m1 205 rfl) rfl
theorem q291 : (Jvm.Cond.lays "ShellBeach" "ShellBeach" "bestPoints" "I") ∈ lw_all := lw_g (lw_at lw_m1 206 rfl) rfl
theorem q292 : (Jvm.Cond.soleField "ShellBeach" "bestPoints") ∈ lw_all := lw_g (lw_at lw_m1 207 rfl) rfl
theorem q293 : (Jvm.Cond.lays "ShellBeach" "ShellBeach" "calmMany" "I") ∈ lw_all := lw_g (lw_at lw_m1 208 rfl) rfl
theorem q294 : (Jvm.Cond.soleField "ShellBeach" "calmMany") ∈ lw_all := lw_g (lw_at lw_m1 209 rfl) rfl
theorem q295 : (Jvm.Cond.laysFinal "ShellBeach" "ShellBeach" "films" "Ljava/util/ArrayList;") ∈ lw_all := lw_g (lw_at lw_m1 210 rfl) rfl
theorem q296 : (Jvm.Cond.soleField "ShellBeach" "films") ∈ lw_all := lw_g (lw_at lw_m1 211 rfl) rfl
theorem q297 : (Jvm.Cond.lays "ShellBeach" "ShellBeach" "mendChange" "I") ∈ lw_all := lw_g (lw_at lw_m1 212 rfl) rfl
theorem q298 : (Jvm.Cond.soleField "ShellBeach" "mendChange") ∈ lw_all := lw_g (lw_at lw_m1 213 rfl) rfl
theorem q299 : (Jvm.Cond.lays "ShellBeach" "ShellBeach" "mendTest" "I") ∈ lw_all := lw_g (lw_at lw_m1 214 rfl) rfl
theorem q300 : (Jvm.Cond.soleField "ShellBeach" "mendTest") ∈ lw_all := lw_g (lw_at lw_m1 215 rfl) rfl
theorem q301 : (Jvm.Cond.lays "ShellBeach" "ShellBeach" "image" "LShellBeach$Image;") ∈ lw_all := lw_g (lw_at lw_m1 216 rfl) rfl
theorem q302 : (Jvm.Cond.soleField "ShellBeach" "image") ∈ lw_all := lw_g (lw_at lw_m1 217 rfl) rfl
theorem q303 : (Jvm.Cond.superclass "ShellBeach" "java/lang/Object") ∈ lw_all := lw_g (lw_at lw_m1 218 rfl) rfl
theorem q305 : (Jvm.Cond.instanceMethod ({ cls := "ShellBeach", name := "shell", desc := "(IIII)I" } : Jvm.MethodName)) ∈ lw_all := lw_g (lw_at lw_m1 220 rfl) rfl
theorem q306 : (Jvm.Cond.selects "ShellBeach" ({ cls := "ShellBeach", name := "shell", desc := "(IIII)I" } : Jvm.MethodName) ({ cls := "ShellBeach", name := "shell", desc := "(IIII)I" } : Jvm.MethodName)) ∈ lw_all := lw_g (lw_at lw_m1 221 rfl) rfl
theorem q307 : (Jvm.Cond.code ({ cls := "ShellBeach", name := "shell", desc := "(IIII)I" } : Jvm.MethodName) prog_1_method_6_code (5 : Nat) (Option.some Jvm.ClassFile.FieldType.int)) ∈ lw_all := lw_g (lw_at lw_m1 222 rfl) rfl
theorem q308 : (Jvm.Cond.methodLink "ShellBeach" (86 : Nat) ({ cls := "ShellBeach", name := "isCell", desc := "(I)Z" } : Jvm.MethodName)) ∈ lw_all := lw_g (lw_at lw_m1 223 rfl) rfl
theorem q309 : (Jvm.Cond.static ({ cls := "ShellBeach", name := "isCell", desc := "(I)Z" } : Jvm.MethodName)) ∈ lw_all := lw_g (lw_at lw_m1 224 rfl) rfl
theorem q310 : (Jvm.Cond.code ({ cls := "ShellBeach", name := "isCell", desc := "(I)Z" } : Jvm.MethodName) prog_1_method_2_code (1 : Nat) (Option.some Jvm.ClassFile.FieldType.boolean)) ∈ lw_all := lw_g (lw_at lw_m1 225 rfl) rfl
theorem q311 : (Jvm.Cond.methodLink "ShellBeach" (3 : Nat) ({ cls := "ShellBeach", name := "in", desc := "(III)Z" } : Jvm.MethodName)) ∈ lw_all := lw_g (lw_at lw_m1 226 rfl) rfl
theorem q312 : (Jvm.Cond.static ({ cls := "ShellBeach", name := "in", desc := "(III)Z" } : Jvm.MethodName)) ∈ lw_all := lw_g (lw_at lw_m1 227 rfl) rfl
theorem q313 : (Jvm.Cond.code ({ cls := "ShellBeach", name := "in", desc := "(III)Z" } : Jvm.MethodName) prog_1_method_1_code (3 : Nat) (Option.some Jvm.ClassFile.FieldType.boolean)) ∈ lw_all := lw_g (lw_at lw_m1 228 rfl) rfl
theorem q314 : (Jvm.Cond.methodLink "ShellBeach" (11 : Nat) ({ cls := "java/util/ArrayList", name := "size", desc := "()I" } : Jvm.MethodName)) ∈ lw_all := lw_g (lw_at lw_m1 229 rfl) rfl
theorem q319 : (Jvm.Cond.methodLink "ShellBeach" (90 : Nat) ({ cls := "ShellBeach$Shell", name := "<init>", desc := "(IIIII)V" } : Jvm.MethodName)) ∈ lw_all := lw_g (lw_at lw_m1 234 rfl) rfl
theorem q325 : (Jvm.Cond.fieldLinkNest "ShellBeach" (179 : Nat) "ShellBeach$Shell" "number" "I" "ShellBeach") ∈ lw_tbl := lw_at lw_m2 0 rfl
theorem q327 : (Jvm.Cond.fieldLinkNest "ShellBeach" (155 : Nat) "ShellBeach$Shell" "room" "I" "ShellBeach") ∈ lw_tbl := lw_at lw_m2 2 rfl
theorem q329 : (Jvm.Cond.fieldLinkNest "ShellBeach" (158 : Nat) "ShellBeach$Shell" "weight" "I" "ShellBeach") ∈ lw_tbl := lw_at lw_m2 4 rfl
theorem q331 : (Jvm.Cond.fieldLinkNest "ShellBeach" (161 : Nat) "ShellBeach$Shell" "holes" "I" "ShellBeach") ∈ lw_tbl := lw_at lw_m2 6 rfl
theorem q334 : (Jvm.Cond.fieldLinkNest "ShellBeach" (151 : Nat) "ShellBeach$Shell" "cell" "I" "ShellBeach") ∈ lw_tbl := lw_at lw_m2 9 rfl
theorem q338 : (Jvm.Cond.fieldLinkNest "ShellBeach" (152 : Nat) "ShellBeach$Shell" "state" "I" "ShellBeach") ∈ lw_tbl := lw_at lw_m2 13 rfl
theorem q341 : (Jvm.Cond.fieldLinkNest "ShellBeach" (164 : Nat) "ShellBeach$Shell" "of" "LShellBeach$Crab;" "ShellBeach") ∈ lw_tbl := lw_at lw_m2 16 rfl
theorem q357 : (Jvm.Cond.methodLink "ShellBeach" (93 : Nat) ({ cls := "java/util/ArrayList", name := "add", desc := "(Ljava/lang/Object;)Z" } : Jvm.MethodName)) ∈ lw_all := lw_g (lw_at lw_m2 32 rfl) rfl
theorem q389 : (Jvm.Cond.selects "ShellBeach" ({ cls := "java/lang/Object", name := "getClass", desc := "()Ljava/lang/Class;" } : Jvm.MethodName) ({ cls := "java/lang/Object", name := "getClass", desc := "()Ljava/lang/Class;" } : Jvm.MethodName)) ∈ lw_all := lw_g (lw_at lw_m2 64 rfl) rfl
theorem q426 : (Jvm.Cond.instanceMethod ({ cls := "ShellBeach", name := "crab", desc := "(III)I" } : Jvm.MethodName)) ∈ lw_all := lw_g (lw_at lw_m2 101 rfl) rfl
theorem q427 : (Jvm.Cond.selects "ShellBeach" ({ cls := "ShellBeach", name := "crab", desc := "(III)I" } : Jvm.MethodName) ({ cls := "ShellBeach", name := "crab", desc := "(III)I" } : Jvm.MethodName)) ∈ lw_all := lw_g (lw_at lw_m2 102 rfl) rfl
theorem q428 : (Jvm.Cond.code ({ cls := "ShellBeach", name := "crab", desc := "(III)I" } : Jvm.MethodName) prog_1_method_10_code (5 : Nat) (Option.some Jvm.ClassFile.FieldType.int)) ∈ lw_all := lw_g (lw_at lw_m2 103 rfl) rfl
theorem q429 : (Jvm.Cond.methodLink "ShellBeach" (111 : Nat) ({ cls := "ShellBeach", name := "shellAt", desc := "(I)LShellBeach$Shell;" } : Jvm.MethodName)) ∈ lw_all := lw_g (lw_at lw_m2 104 rfl) rfl
theorem q430 : (Jvm.Cond.privateMethod ({ cls := "ShellBeach", name := "shellAt", desc := "(I)LShellBeach$Shell;" } : Jvm.MethodName)) ∈ lw_tbl := lw_at lw_m2 105 rfl
theorem q431 : (Jvm.Cond.instanceMethod ({ cls := "ShellBeach", name := "shellAt", desc := "(I)LShellBeach$Shell;" } : Jvm.MethodName)) ∈ lw_all := lw_g (lw_at lw_m2 106 rfl) rfl
theorem q432 : (Jvm.Cond.code ({ cls := "ShellBeach", name := "shellAt", desc := "(I)LShellBeach$Shell;" } : Jvm.MethodName) prog_1_method_4_code (2 : Nat) (Option.some (Jvm.ClassFile.FieldType.object "ShellBeach$Shell"))) ∈ lw_all := lw_g (lw_at lw_m2 107 rfl) rfl
theorem q433 : (Jvm.Cond.methodLink "ShellBeach" (17 : Nat) ({ cls := "java/util/ArrayList", name := "get", desc := "(I)Ljava/lang/Object;" } : Jvm.MethodName)) ∈ lw_all := lw_g (lw_at lw_m2 108 rfl) rfl
theorem q447 : (Jvm.Cond.methodLink "ShellBeach" (115 : Nat) ({ cls := "ShellBeach$Shell", name := "liesIn", desc := "(I)Z" } : Jvm.MethodName)) ∈ lw_all := lw_g (lw_at lw_m2 122 rfl) rfl
theorem q452 : (Jvm.Cond.methodLink "ShellBeach" (118 : Nat) ({ cls := "ShellBeach$Crab", name := "<init>", desc := "(LShellBeach;III)V" } : Jvm.MethodName)) ∈ lw_all := lw_g (lw_at lw_m2 127 rfl) rfl
theorem q549 : (Jvm.Cond.fieldLinkNest "ShellBeach" (125 : Nat) "ShellBeach$Crab" "number" "I" "ShellBeach") ∈ lw_tbl := lw_at lw_m2 224 rfl
theorem q553 : (Jvm.Cond.fieldLinkNest "ShellBeach" (104 : Nat) "ShellBeach$Crab" "cell" "I" "ShellBeach") ∈ lw_tbl := lw_at lw_m2 228 rfl
theorem q557 : (Jvm.Cond.fieldLinkNest "ShellBeach" (177 : Nat) "ShellBeach$Crab" "size" "I" "ShellBeach") ∈ lw_tbl := lw_at lw_m2 232 rfl
theorem q560 : (Jvm.Cond.fieldLinkNest "ShellBeach" (180 : Nat) "ShellBeach$Crab" "left" "I" "ShellBeach") ∈ lw_tbl := lw_at lw_m2 235 rfl
theorem q562 : (Jvm.Cond.fieldLinkNest "ShellBeach" (186 : Nat) "ShellBeach$Crab" "knocks" "I" "ShellBeach") ∈ lw_tbl := lw_at lw_m2 237 rfl
theorem q566 : (Jvm.Cond.fieldLinkNest "ShellBeach" (143 : Nat) "ShellBeach$Crab" "isDead" "Z" "ShellBeach") ∈ lw_tbl := lw_at lw_m3 1 rfl
theorem q569 : (Jvm.Cond.fieldLinkNest "ShellBeach" (231 : Nat) "ShellBeach$Crab" "waits" "Z" "ShellBeach") ∈ lw_tbl := lw_at lw_m3 4 rfl
theorem q572 : (Jvm.Cond.fieldLinkNest "ShellBeach" (234 : Nat) "ShellBeach$Crab" "hasKnocked" "Z" "ShellBeach") ∈ lw_tbl := lw_at lw_m3 7 rfl
theorem q575 : (Jvm.Cond.fieldLinkNest "ShellBeach" (147 : Nat) "ShellBeach$Crab" "shell" "LShellBeach$Shell;" "ShellBeach") ∈ lw_tbl := lw_at lw_m3 10 rfl
theorem q577 : (Jvm.Cond.fieldLinkNest "ShellBeach" (189 : Nat) "ShellBeach$Crab" "at" "LShellBeach$Crab;" "ShellBeach") ∈ lw_tbl := lw_at lw_m3 12 rfl
theorem q580 : (Jvm.Cond.fieldLinkNest "ShellBeach" (136 : Nat) "ShellBeach$Crab" "habit" "LShellBeach$Habit;" "ShellBeach") ∈ lw_tbl := lw_at lw_m3 15 rfl
theorem q610 : (Jvm.Cond.methodLink "ShellBeach" (121 : Nat) ({ cls := "ShellBeach$Crab", name := "houseIn", desc := "(LShellBeach$Shell;)V" } : Jvm.MethodName)) ∈ lw_all := lw_g (lw_at lw_m3 45 rfl) rfl
theorem q619 : (Jvm.Cond.instanceMethod ({ cls := "ShellBeach", name := "habit", desc := "(II)I" } : Jvm.MethodName)) ∈ lw_all := lw_g (lw_at lw_m3 54 rfl) rfl
theorem q620 : (Jvm.Cond.selects "ShellBeach" ({ cls := "ShellBeach", name := "habit", desc := "(II)I" } : Jvm.MethodName) ({ cls := "ShellBeach", name := "habit", desc := "(II)I" } : Jvm.MethodName)) ∈ lw_all := lw_g (lw_at lw_m3 55 rfl) rfl
theorem q621 : (Jvm.Cond.code ({ cls := "ShellBeach", name := "habit", desc := "(II)I" } : Jvm.MethodName) prog_1_method_11_code (5 : Nat) (Option.some Jvm.ClassFile.FieldType.int)) ∈ lw_all := lw_g (lw_at lw_m3 56 rfl) rfl
theorem q622 : (Jvm.Cond.methodLink "ShellBeach" (128 : Nat) ({ cls := "ShellBeach", name := "crabAt", desc := "(I)LShellBeach$Crab;" } : Jvm.MethodName)) ∈ lw_all := lw_g (lw_at lw_m3 57 rfl) rfl
theorem q623 : (Jvm.Cond.privateMethod ({ cls := "ShellBeach", name := "crabAt", desc := "(I)LShellBeach$Crab;" } : Jvm.MethodName)) ∈ lw_tbl := lw_at lw_m3 58 rfl
theorem q624 : (Jvm.Cond.instanceMethod ({ cls := "ShellBeach", name := "crabAt", desc := "(I)LShellBeach$Crab;" } : Jvm.MethodName)) ∈ lw_all := lw_g (lw_at lw_m3 59 rfl) rfl
theorem q625 : (Jvm.Cond.code ({ cls := "ShellBeach", name := "crabAt", desc := "(I)LShellBeach$Crab;" } : Jvm.MethodName) prog_1_method_8_code (2 : Nat) (Option.some (Jvm.ClassFile.FieldType.object "ShellBeach$Crab"))) ∈ lw_all := lw_g (lw_at lw_m3 60 rfl) rfl
theorem q626 : (Jvm.Cond.methodLink "ShellBeach" (132 : Nat) ({ cls := "ShellBeach", name := "habitAt", desc := "(I)LShellBeach$Habit;" } : Jvm.MethodName)) ∈ lw_all := lw_g (lw_at lw_m3 61 rfl) rfl
theorem q627 : (Jvm.Cond.privateMethod ({ cls := "ShellBeach", name := "habitAt", desc := "(I)LShellBeach$Habit;" } : Jvm.MethodName)) ∈ lw_tbl := lw_at lw_m3 62 rfl
theorem q628 : (Jvm.Cond.instanceMethod ({ cls := "ShellBeach", name := "habitAt", desc := "(I)LShellBeach$Habit;" } : Jvm.MethodName)) ∈ lw_all := lw_g (lw_at lw_m3 63 rfl) rfl
theorem q629 : (Jvm.Cond.code ({ cls := "ShellBeach", name := "habitAt", desc := "(I)LShellBeach$Habit;" } : Jvm.MethodName) prog_1_method_18_code (2 : Nat) (Option.some (Jvm.ClassFile.FieldType.object "ShellBeach$Habit"))) ∈ lw_all := lw_g (lw_at lw_m3 64 rfl) rfl
theorem q630 : (Jvm.Cond.classLink "ShellBeach" (141 : Nat) "ShellBeach$Habit") ∈ lw_all := lw_g (lw_at lw_m3 65 rfl) rfl
theorem q632 : (Jvm.Cond.instanceMethod ({ cls := "ShellBeach", name := "walk", desc := "(II)I" } : Jvm.MethodName)) ∈ lw_all := lw_g (lw_at lw_m3 67 rfl) rfl
theorem q633 : (Jvm.Cond.selects "ShellBeach" ({ cls := "ShellBeach", name := "walk", desc := "(II)I" } : Jvm.MethodName) ({ cls := "ShellBeach", name := "walk", desc := "(II)I" } : Jvm.MethodName)) ∈ lw_all := lw_g (lw_at lw_m3 68 rfl) rfl
theorem q634 : (Jvm.Cond.code ({ cls := "ShellBeach", name := "walk", desc := "(II)I" } : Jvm.MethodName) prog_1_method_12_code (5 : Nat) (Option.some Jvm.ClassFile.FieldType.int)) ∈ lw_all := lw_g (lw_at lw_m3 69 rfl) rfl
theorem q636 : (Jvm.Cond.instanceMethod ({ cls := "ShellBeach", name := "of", desc := "(II)I" } : Jvm.MethodName)) ∈ lw_all := lw_g (lw_at lw_m3 71 rfl) rfl
theorem q637 : (Jvm.Cond.selects "ShellBeach" ({ cls := "ShellBeach", name := "of", desc := "(II)I" } : Jvm.MethodName) ({ cls := "ShellBeach", name := "of", desc := "(II)I" } : Jvm.MethodName)) ∈ lw_all := lw_g (lw_at lw_m3 72 rfl) rfl
theorem q638 : (Jvm.Cond.code ({ cls := "ShellBeach", name := "of", desc := "(II)I" } : Jvm.MethodName) prog_1_method_13_code (4 : Nat) (Option.some Jvm.ClassFile.FieldType.int)) ∈ lw_all := lw_g (lw_at lw_m3 73 rfl) rfl
theorem q640 : (Jvm.Cond.instanceMethod ({ cls := "ShellBeach", name := "about", desc := "(II)I" } : Jvm.MethodName)) ∈ lw_all := lw_g (lw_at lw_m3 75 rfl) rfl
theorem q641 : (Jvm.Cond.selects "ShellBeach" ({ cls := "ShellBeach", name := "about", desc := "(II)I" } : Jvm.MethodName) ({ cls := "ShellBeach", name := "about", desc := "(II)I" } : Jvm.MethodName)) ∈ lw_all := lw_g (lw_at lw_m3 76 rfl) rfl
theorem q642 : (Jvm.Cond.code ({ cls := "ShellBeach", name := "about", desc := "(II)I" } : Jvm.MethodName) prog_1_method_14_code (4 : Nat) (Option.some Jvm.ClassFile.FieldType.int)) ∈ lw_all := lw_g (lw_at lw_m3 77 rfl) rfl
theorem q643 : (Jvm.Cond.methodLink "ShellBeach" (168 : Nat) ({ cls := "ShellBeach$Crab", name := "way", desc := "()LShellBeach$Way;" } : Jvm.MethodName)) ∈ lw_all := lw_g (lw_at lw_m3 78 rfl) rfl
theorem q652 : (Jvm.Cond.privateMethod ({ cls := "ShellBeach", name := "isRowed", desc := "(LShellBeach$Crab;)Z" } : Jvm.MethodName)) ∈ lw_tbl := lw_at lw_m3 87 rfl
theorem q653 : (Jvm.Cond.instanceMethod ({ cls := "ShellBeach", name := "isRowed", desc := "(LShellBeach$Crab;)Z" } : Jvm.MethodName)) ∈ lw_all := lw_g (lw_at lw_m3 88 rfl) rfl
theorem q654 : (Jvm.Cond.code ({ cls := "ShellBeach", name := "isRowed", desc := "(LShellBeach$Crab;)Z" } : Jvm.MethodName) prog_1_method_9_code (4 : Nat) (Option.some Jvm.ClassFile.FieldType.boolean)) ∈ lw_all := lw_g (lw_at lw_m3 89 rfl) rfl
theorem q655 : (Jvm.Cond.methodLink "ShellBeach" (100 : Nat) ({ cls := "ShellBeach$Crab", name := "isWaiting", desc := "()Z" } : Jvm.MethodName)) ∈ lw_all := lw_g (lw_at lw_m3 90 rfl) rfl
theorem q659 : (Jvm.Cond.methodLink "ShellBeach" (107 : Nat) ({ cls := "ShellBeach$Crab", name := "isAhead", desc := "(LShellBeach$Crab;)Z" } : Jvm.MethodName)) ∈ lw_all := lw_g (lw_at lw_m3 94 rfl) rfl
theorem q663 : (Jvm.Cond.methodLink "ShellBeach" (172 : Nat) ({ cls := "ShellBeach$Way", name := "kind", desc := "()I" } : Jvm.MethodName)) ∈ lw_all := lw_g (lw_at lw_m3 98 rfl) rfl
theorem q686 : (Jvm.Cond.methodLink "ShellBeach" (183 : Nat) ({ cls := "ShellBeach$Crab", name := "fit", desc := "()I" } : Jvm.MethodName)) ∈ lw_all := lw_g (lw_at lw_m3 121 rfl) rfl
theorem q695 : (Jvm.Cond.instanceMethod ({ cls := "ShellBeach", name := "fit", desc := "(II)I" } : Jvm.MethodName)) ∈ lw_all := lw_g (lw_at lw_m3 130 rfl) rfl
theorem q696 : (Jvm.Cond.selects "ShellBeach" ({ cls := "ShellBeach", name := "fit", desc := "(II)I" } : Jvm.MethodName) ({ cls := "ShellBeach", name := "fit", desc := "(II)I" } : Jvm.MethodName)) ∈ lw_all := lw_g (lw_at lw_m3 131 rfl) rfl
theorem q697 : (Jvm.Cond.code ({ cls := "ShellBeach", name := "fit", desc := "(II)I" } : Jvm.MethodName) prog_1_method_15_code (4 : Nat) (Option.some Jvm.ClassFile.FieldType.int)) ∈ lw_all := lw_g (lw_at lw_m3 132 rfl) rfl
theorem q698 : (Jvm.Cond.methodLink "ShellBeach" (192 : Nat) ({ cls := "ShellBeach$Shell", name := "fit", desc := "(I)I" } : Jvm.MethodName)) ∈ lw_all := lw_g (lw_at lw_m3 133 rfl) rfl
theorem q700 : (Jvm.Cond.instanceMethod ({ cls := "ShellBeach", name := "end", desc := "(II)I" } : Jvm.MethodName)) ∈ lw_all := lw_g (lw_at lw_m3 135 rfl) rfl
theorem q701 : (Jvm.Cond.selects "ShellBeach" ({ cls := "ShellBeach", name := "end", desc := "(II)I" } : Jvm.MethodName) ({ cls := "ShellBeach", name := "end", desc := "(II)I" } : Jvm.MethodName)) ∈ lw_all := lw_g (lw_at lw_m3 136 rfl) rfl
theorem q702 : (Jvm.Cond.code ({ cls := "ShellBeach", name := "end", desc := "(II)I" } : Jvm.MethodName) prog_1_method_16_code (5 : Nat) (Option.some Jvm.ClassFile.FieldType.int)) ∈ lw_all := lw_g (lw_at lw_m3 137 rfl) rfl
theorem q703 : (Jvm.Cond.methodLink "ShellBeach" (195 : Nat) ({ cls := "ShellBeach$Crab", name := "lose", desc := "()V" } : Jvm.MethodName)) ∈ lw_all := lw_g (lw_at lw_m3 138 rfl) rfl
theorem q707 : (Jvm.Cond.methodLink "ShellBeach" (198 : Nat) ({ cls := "ShellBeach$Shell", name := "become", desc := "(ILShellBeach$Crab;)V" } : Jvm.MethodName)) ∈ lw_all := lw_g (lw_at lw_m3 142 rfl) rfl
theorem q709 : (Jvm.Cond.instanceMethod ({ cls := "ShellBeach", name := "eat", desc := "(I)I" } : Jvm.MethodName)) ∈ lw_all := lw_g (lw_at lw_m3 144 rfl) rfl
theorem q710 : (Jvm.Cond.selects "ShellBeach" ({ cls := "ShellBeach", name := "eat", desc := "(I)I" } : Jvm.MethodName) ({ cls := "ShellBeach", name := "eat", desc := "(I)I" } : Jvm.MethodName)) ∈ lw_all := lw_g (lw_at lw_m3 145 rfl) rfl
theorem q711 : (Jvm.Cond.code ({ cls := "ShellBeach", name := "eat", desc := "(I)I" } : Jvm.MethodName) prog_1_method_17_code (5 : Nat) (Option.some Jvm.ClassFile.FieldType.int)) ∈ lw_all := lw_g (lw_at lw_m3 146 rfl) rfl
theorem q712 : (Jvm.Cond.methodLink "ShellBeach" (202 : Nat) ({ cls := "ShellBeach$Crab", name := "isBare", desc := "()Z" } : Jvm.MethodName)) ∈ lw_all := lw_g (lw_at lw_m3 147 rfl) rfl
theorem q717 : (Jvm.Cond.instanceMethod ({ cls := "ShellBeach", name := "feed", desc := "(JI)I" } : Jvm.MethodName)) ∈ lw_all := lw_g (lw_at lw_m3 152 rfl) rfl
theorem q718 : (Jvm.Cond.selects "ShellBeach" ({ cls := "ShellBeach", name := "feed", desc := "(JI)I" } : Jvm.MethodName) ({ cls := "ShellBeach", name := "feed", desc := "(JI)I" } : Jvm.MethodName)) ∈ lw_all := lw_g (lw_at lw_m3 153 rfl) rfl
theorem q719 : (Jvm.Cond.code ({ cls := "ShellBeach", name := "feed", desc := "(JI)I" } : Jvm.MethodName) prog_1_method_19_code (5 : Nat) (Option.some Jvm.ClassFile.FieldType.int)) ∈ lw_all := lw_g (lw_at lw_m3 154 rfl) rfl
theorem q721 : (Jvm.Cond.instanceMethod ({ cls := "ShellBeach", name := "text", desc := "()I" } : Jvm.MethodName)) ∈ lw_all := lw_g (lw_at lw_m3 156 rfl) rfl
theorem q722 : (Jvm.Cond.selects "ShellBeach" ({ cls := "ShellBeach", name := "text", desc := "()I" } : Jvm.MethodName) ({ cls := "ShellBeach", name := "text", desc := "()I" } : Jvm.MethodName)) ∈ lw_all := lw_g (lw_at lw_m3 157 rfl) rfl
theorem q723 : (Jvm.Cond.codeWith ({ cls := "ShellBeach", name := "text", desc := "()I" } : Jvm.MethodName) prog_1_method_20_code (4 : Nat) (Option.some Jvm.ClassFile.FieldType.int) [((15 : Nat), (40 : Nat), (47 : Nat), (212 : Nat)), ((15 : Nat), (40 : Nat), (63 : Nat), (0 : Nat)), ((47 : Nat), (56 : Nat), (63 : Nat), (0 : Nat))]) ∈ lw_all := lw_g (lw_at lw_m3 158 rfl) rfl
theorem q724 : (Jvm.Cond.classLink "ShellBeach" (212 : Nat) "ShellBeach$Wrong") ∈ lw_all := lw_g (lw_at lw_m3 159 rfl) rfl
theorem q725 : (Jvm.Cond.methodLink "ShellBeach" (208 : Nat) ({ cls := "ShellBeach$Reader", name := "read", desc := "()LShellBeach$Habit;" } : Jvm.MethodName)) ∈ lw_all := lw_g (lw_at lw_m3 160 rfl) rfl
theorem q739 : (Jvm.Cond.fieldLinkNest "ShellBeach" (140 : Nat) "ShellBeach$Habit" "number" "I" "ShellBeach") ∈ lw_tbl := lw_at lw_m3 174 rfl
theorem q746 : (Jvm.Cond.fieldLinkNest "ShellBeach" (335 : Nat) "ShellBeach$Habit" "facts" "Ljava/util/ArrayList;" "ShellBeach") ∈ lw_tbl := lw_at lw_m3 181 rfl
theorem q818 : (Jvm.Cond.fieldLinkNest "ShellBeach" (214 : Nat) "ShellBeach$Wrong" "place" "I" "ShellBeach") ∈ lw_tbl := lw_at lw_m4 13 rfl
theorem q877 : (Jvm.Cond.fieldLinkNest "ShellBeach" (340 : Nat) "ShellBeach$Fact" "number" "I" "ShellBeach") ∈ lw_tbl := lw_at lw_m4 72 rfl
theorem q903 : (Jvm.Cond.instanceMethod ({ cls := "ShellBeach", name := "holds", desc := "(IIIIIII)I" } : Jvm.MethodName)) ∈ lw_all := lw_g (lw_at lw_m4 98 rfl) rfl
theorem q904 : (Jvm.Cond.selects "ShellBeach" ({ cls := "ShellBeach", name := "holds", desc := "(IIIIIII)I" } : Jvm.MethodName) ({ cls := "ShellBeach", name := "holds", desc := "(IIIIIII)I" } : Jvm.MethodName)) ∈ lw_all := lw_g (lw_at lw_m4 99 rfl) rfl
theorem q905 : (Jvm.Cond.code ({ cls := "ShellBeach", name := "holds", desc := "(IIIIIII)I" } : Jvm.MethodName) prog_1_method_22_code (9 : Nat) (Option.some Jvm.ClassFile.FieldType.int)) ∈ lw_all := lw_g (lw_at lw_m4 100 rfl) rfl
theorem q906 : (Jvm.Cond.methodLink "ShellBeach" (220 : Nat) ({ cls := "ShellBeach", name := "areNumbers", desc := "(IIIII)Z" } : Jvm.MethodName)) ∈ lw_all := lw_g (lw_at lw_m4 101 rfl) rfl
theorem q907 : (Jvm.Cond.static ({ cls := "ShellBeach", name := "areNumbers", desc := "(IIIII)Z" } : Jvm.MethodName)) ∈ lw_all := lw_g (lw_at lw_m4 102 rfl) rfl
theorem q908 : (Jvm.Cond.code ({ cls := "ShellBeach", name := "areNumbers", desc := "(IIIII)Z" } : Jvm.MethodName) prog_1_method_21_code (5 : Nat) (Option.some Jvm.ClassFile.FieldType.boolean)) ∈ lw_all := lw_g (lw_at lw_m4 103 rfl) rfl
theorem q909 : (Jvm.Cond.methodLink "ShellBeach" (217 : Nat) ({ cls := "ShellBeach", name := "isNumber", desc := "(I)Z" } : Jvm.MethodName)) ∈ lw_all := lw_g (lw_at lw_m4 104 rfl) rfl
theorem q910 : (Jvm.Cond.static ({ cls := "ShellBeach", name := "isNumber", desc := "(I)Z" } : Jvm.MethodName)) ∈ lw_all := lw_g (lw_at lw_m4 105 rfl) rfl
theorem q911 : (Jvm.Cond.code ({ cls := "ShellBeach", name := "isNumber", desc := "(I)Z" } : Jvm.MethodName) prog_1_method_3_code (1 : Nat) (Option.some Jvm.ClassFile.FieldType.boolean)) ∈ lw_all := lw_g (lw_at lw_m4 106 rfl) rfl
theorem q912 : (Jvm.Cond.methodLink "ShellBeach" (224 : Nat) ({ cls := "ShellBeach$Habit", name := "holds", desc := "(IIIIII)Z" } : Jvm.MethodName)) ∈ lw_all := lw_g (lw_at lw_m4 107 rfl) rfl
theorem q954 : (Jvm.Cond.instanceMethod ({ cls := "ShellBeach", name := "set", desc := "(II)I" } : Jvm.MethodName)) ∈ lw_all := lw_g (lw_at lw_m4 149 rfl) rfl
theorem q955 : (Jvm.Cond.selects "ShellBeach" ({ cls := "ShellBeach", name := "set", desc := "(II)I" } : Jvm.MethodName) ({ cls := "ShellBeach", name := "set", desc := "(II)I" } : Jvm.MethodName)) ∈ lw_all := lw_g (lw_at lw_m4 150 rfl) rfl
theorem q956 : (Jvm.Cond.code ({ cls := "ShellBeach", name := "set", desc := "(II)I" } : Jvm.MethodName) prog_1_method_23_code (4 : Nat) (Option.some Jvm.ClassFile.FieldType.int)) ∈ lw_all := lw_g (lw_at lw_m4 151 rfl) rfl
theorem q958 : (Jvm.Cond.instanceMethod ({ cls := "ShellBeach", name := "tick", desc := "(I)I" } : Jvm.MethodName)) ∈ lw_all := lw_g (lw_at lw_m4 153 rfl) rfl
theorem q959 : (Jvm.Cond.selects "ShellBeach" ({ cls := "ShellBeach", name := "tick", desc := "(I)I" } : Jvm.MethodName) ({ cls := "ShellBeach", name := "tick", desc := "(I)I" } : Jvm.MethodName)) ∈ lw_all := lw_g (lw_at lw_m4 154 rfl) rfl
theorem q960 : (Jvm.Cond.code ({ cls := "ShellBeach", name := "tick", desc := "(I)I" } : Jvm.MethodName) prog_1_method_25_code (3 : Nat) (Option.some Jvm.ClassFile.FieldType.int)) ∈ lw_all := lw_g (lw_at lw_m4 155 rfl) rfl
theorem q961 : (Jvm.Cond.methodLink "ShellBeach" (255 : Nat) ({ cls := "ShellBeach", name := "goTick", desc := "()V" } : Jvm.MethodName)) ∈ lw_all := lw_g (lw_at lw_m4 156 rfl) rfl
theorem q962 : (Jvm.Cond.privateMethod ({ cls := "ShellBeach", name := "goTick", desc := "()V" } : Jvm.MethodName)) ∈ lw_tbl := lw_at lw_m4 157 rfl
theorem q963 : (Jvm.Cond.instanceMethod ({ cls := "ShellBeach", name := "goTick", desc := "()V" } : Jvm.MethodName)) ∈ lw_all := lw_g (lw_at lw_m4 158 rfl) rfl
theorem q964 : (Jvm.Cond.code ({ cls := "ShellBeach", name := "goTick", desc := "()V" } : Jvm.MethodName) prog_1_method_24_code (3 : Nat) (Option.none : Option Jvm.ClassFile.FieldType)) ∈ lw_all := lw_g (lw_at lw_m4 159 rfl) rfl
theorem q965 : (Jvm.Cond.methodLink "ShellBeach" (237 : Nat) ({ cls := "ShellBeach$Crab", name := "stepOn", desc := "()V" } : Jvm.MethodName)) ∈ lw_all := lw_g (lw_at lw_m4 160 rfl) rfl
theorem q982 : (Jvm.Cond.methodLink "ShellBeach" (240 : Nat) ({ cls := "ShellBeach$Crab", name := "isHoused", desc := "()Z" } : Jvm.MethodName)) ∈ lw_all := lw_g (lw_at lw_m4 177 rfl) rfl
theorem q983 : (Jvm.Cond.methodLink "ShellBeach" (243 : Nat) ({ cls := "ShellBeach$Crab", name := "act", desc := "()V" } : Jvm.MethodName)) ∈ lw_all := lw_g (lw_at lw_m4 178 rfl) rfl
theorem q1002 : (Jvm.Cond.methodLink "ShellBeach" (249 : Nat) ({ cls := "java/lang/Math", name := "min", desc := "(II)I" } : Jvm.MethodName)) ∈ lw_all := lw_g (lw_at lw_m4 197 rfl) rfl
theorem q1004 : (Jvm.Cond.instanceMethod ({ cls := "ShellBeach", name := "row", desc := "(II)I" } : Jvm.MethodName)) ∈ lw_all := lw_g (lw_at lw_m4 199 rfl) rfl
theorem q1005 : (Jvm.Cond.selects "ShellBeach" ({ cls := "ShellBeach", name := "row", desc := "(II)I" } : Jvm.MethodName) ({ cls := "ShellBeach", name := "row", desc := "(II)I" } : Jvm.MethodName)) ∈ lw_all := lw_g (lw_at lw_m4 200 rfl) rfl
theorem q1006 : (Jvm.Cond.code ({ cls := "ShellBeach", name := "row", desc := "(II)I" } : Jvm.MethodName) prog_1_method_26_code (8 : Nat) (Option.some Jvm.ClassFile.FieldType.int)) ∈ lw_all := lw_g (lw_at lw_m4 201 rfl) rfl
theorem q1008 : (Jvm.Cond.instanceMethod ({ cls := "ShellBeach", name := "exchanges", desc := "(I)I" } : Jvm.MethodName)) ∈ lw_all := lw_g (lw_at lw_m4 203 rfl) rfl
theorem q1009 : (Jvm.Cond.selects "ShellBeach" ({ cls := "ShellBeach", name := "exchanges", desc := "(I)I" } : Jvm.MethodName) ({ cls := "ShellBeach", name := "exchanges", desc := "(I)I" } : Jvm.MethodName)) ∈ lw_all := lw_g (lw_at lw_m4 204 rfl) rfl
theorem q1010 : (Jvm.Cond.code ({ cls := "ShellBeach", name := "exchanges", desc := "(I)I" } : Jvm.MethodName) prog_1_method_27_code (2 : Nat) (Option.some Jvm.ClassFile.FieldType.int)) ∈ lw_all := lw_g (lw_at lw_m4 205 rfl) rfl
theorem q1012 : (Jvm.Cond.instanceMethod ({ cls := "ShellBeach", name := "points", desc := "()I" } : Jvm.MethodName)) ∈ lw_all := lw_g (lw_at lw_m4 207 rfl) rfl
theorem q1013 : (Jvm.Cond.selects "ShellBeach" ({ cls := "ShellBeach", name := "points", desc := "()I" } : Jvm.MethodName) ({ cls := "ShellBeach", name := "points", desc := "()I" } : Jvm.MethodName)) ∈ lw_all := lw_g (lw_at lw_m4 208 rfl) rfl
theorem q1014 : (Jvm.Cond.code ({ cls := "ShellBeach", name := "points", desc := "()I" } : Jvm.MethodName) prog_1_method_28_code (3 : Nat) (Option.some Jvm.ClassFile.FieldType.int)) ∈ lw_all := lw_g (lw_at lw_m4 209 rfl) rfl
theorem q1016 : (Jvm.Cond.instanceMethod ({ cls := "ShellBeach", name := "chain", desc := "(II)I" } : Jvm.MethodName)) ∈ lw_all := lw_g (lw_at lw_m4 211 rfl) rfl
theorem q1017 : (Jvm.Cond.selects "ShellBeach" ({ cls := "ShellBeach", name := "chain", desc := "(II)I" } : Jvm.MethodName) ({ cls := "ShellBeach", name := "chain", desc := "(II)I" } : Jvm.MethodName)) ∈ lw_all := lw_g (lw_at lw_m4 212 rfl) rfl
theorem q1018 : (Jvm.Cond.code ({ cls := "ShellBeach", name := "chain", desc := "(II)I" } : Jvm.MethodName) prog_1_method_30_code (4 : Nat) (Option.some Jvm.ClassFile.FieldType.int)) ∈ lw_all := lw_g (lw_at lw_m4 213 rfl) rfl
theorem q1019 : (Jvm.Cond.methodLink "ShellBeach" (267 : Nat) ({ cls := "ShellBeach", name := "findChain", desc := "(LShellBeach$Shell;)V" } : Jvm.MethodName)) ∈ lw_all := lw_g (lw_at lw_m4 214 rfl) rfl
theorem q1020 : (Jvm.Cond.privateMethod ({ cls := "ShellBeach", name := "findChain", desc := "(LShellBeach$Shell;)V" } : Jvm.MethodName)) ∈ lw_tbl := lw_at lw_m4 215 rfl
theorem q1021 : (Jvm.Cond.instanceMethod ({ cls := "ShellBeach", name := "findChain", desc := "(LShellBeach$Shell;)V" } : Jvm.MethodName)) ∈ lw_all := lw_g (lw_at lw_m4 216 rfl) rfl
theorem q1022 : (Jvm.Cond.code ({ cls := "ShellBeach", name := "findChain", desc := "(LShellBeach$Shell;)V" } : Jvm.MethodName) prog_1_method_29_code (7 : Nat) (Option.none : Option Jvm.ClassFile.FieldType)) ∈ lw_all := lw_g (lw_at lw_m4 217 rfl) rfl
theorem q1024 : (Jvm.Cond.instanceMethod ({ cls := "ShellBeach", name := "value", desc := "(I)I" } : Jvm.MethodName)) ∈ lw_all := lw_g (lw_at lw_m4 219 rfl) rfl
theorem q1025 : (Jvm.Cond.selects "ShellBeach" ({ cls := "ShellBeach", name := "value", desc := "(I)I" } : Jvm.MethodName) ({ cls := "ShellBeach", name := "value", desc := "(I)I" } : Jvm.MethodName)) ∈ lw_all := lw_g (lw_at lw_m4 220 rfl) rfl
theorem q1026 : (Jvm.Cond.code ({ cls := "ShellBeach", name := "value", desc := "(I)I" } : Jvm.MethodName) prog_1_method_32_code (2 : Nat) (Option.some Jvm.ClassFile.FieldType.int)) ∈ lw_all := lw_g (lw_at lw_m4 221 rfl) rfl
theorem q1027 : (Jvm.Cond.methodLink "ShellBeach" (270 : Nat) ({ cls := "ShellBeach", name := "valueOf", desc := "(I)I" } : Jvm.MethodName)) ∈ lw_all := lw_g (lw_at lw_m4 222 rfl) rfl
theorem q1028 : (Jvm.Cond.privateMethod ({ cls := "ShellBeach", name := "valueOf", desc := "(I)I" } : Jvm.MethodName)) ∈ lw_tbl := lw_at lw_m4 223 rfl
theorem q1029 : (Jvm.Cond.instanceMethod ({ cls := "ShellBeach", name := "valueOf", desc := "(I)I" } : Jvm.MethodName)) ∈ lw_all := lw_g (lw_at lw_m4 224 rfl) rfl
theorem q1030 : (Jvm.Cond.code ({ cls := "ShellBeach", name := "valueOf", desc := "(I)I" } : Jvm.MethodName) prog_1_method_31_code (2 : Nat) (Option.some Jvm.ClassFile.FieldType.int)) ∈ lw_all := lw_g (lw_at lw_m4 225 rfl) rfl
theorem q1032 : (Jvm.Cond.instanceMethod ({ cls := "ShellBeach", name := "first", desc := "()I" } : Jvm.MethodName)) ∈ lw_all := lw_g (lw_at lw_m4 227 rfl) rfl
theorem q1033 : (Jvm.Cond.selects "ShellBeach" ({ cls := "ShellBeach", name := "first", desc := "()I" } : Jvm.MethodName) ({ cls := "ShellBeach", name := "first", desc := "()I" } : Jvm.MethodName)) ∈ lw_all := lw_g (lw_at lw_m4 228 rfl) rfl
theorem q1034 : (Jvm.Cond.code ({ cls := "ShellBeach", name := "first", desc := "()I" } : Jvm.MethodName) prog_1_method_33_code (5 : Nat) (Option.some Jvm.ClassFile.FieldType.int)) ∈ lw_all := lw_g (lw_at lw_m4 229 rfl) rfl
theorem q1036 : (Jvm.Cond.instanceMethod ({ cls := "ShellBeach", name := "best", desc := "(II)I" } : Jvm.MethodName)) ∈ lw_all := lw_g (lw_at lw_m4 231 rfl) rfl
theorem q1037 : (Jvm.Cond.selects "ShellBeach" ({ cls := "ShellBeach", name := "best", desc := "(II)I" } : Jvm.MethodName) ({ cls := "ShellBeach", name := "best", desc := "(II)I" } : Jvm.MethodName)) ∈ lw_all := lw_g (lw_at lw_m4 232 rfl) rfl
theorem q1038 : (Jvm.Cond.code ({ cls := "ShellBeach", name := "best", desc := "(II)I" } : Jvm.MethodName) prog_1_method_39_code (4 : Nat) (Option.some Jvm.ClassFile.FieldType.int)) ∈ lw_all := lw_g (lw_at lw_m4 233 rfl) rfl
theorem q1039 : (Jvm.Cond.methodLink "ShellBeach" (305 : Nat) ({ cls := "ShellBeach", name := "findTold", desc := "(I)I" } : Jvm.MethodName)) ∈ lw_all := lw_g (lw_at lw_m4 234 rfl) rfl
theorem q1040 : (Jvm.Cond.privateMethod ({ cls := "ShellBeach", name := "findTold", desc := "(I)I" } : Jvm.MethodName)) ∈ lw_tbl := lw_at lw_m4 235 rfl
theorem q1041 : (Jvm.Cond.instanceMethod ({ cls := "ShellBeach", name := "findTold", desc := "(I)I" } : Jvm.MethodName)) ∈ lw_all := lw_g (lw_at lw_m4 236 rfl) rfl
theorem q1042 : (Jvm.Cond.code ({ cls := "ShellBeach", name := "findTold", desc := "(I)I" } : Jvm.MethodName) prog_1_method_34_code (3 : Nat) (Option.some Jvm.ClassFile.FieldType.int)) ∈ lw_all := lw_g (lw_at lw_m4 237 rfl) rfl
theorem q1043 : (Jvm.Cond.methodLink "ShellBeach" (273 : Nat) ({ cls := "java/lang/Integer", name := "bitCount", desc := "(I)I" } : Jvm.MethodName)) ∈ lw_all := lw_g (lw_at lw_m4 238 rfl) rfl
theorem q1049 : (Jvm.Cond.methodLink "ShellBeach" (308 : Nat) ({ cls := "ShellBeach", name := "findPartings", desc := "()V" } : Jvm.MethodName)) ∈ lw_all := lw_g (lw_at lw_m5 4 rfl) rfl
theorem q1050 : (Jvm.Cond.privateMethod ({ cls := "ShellBeach", name := "findPartings", desc := "()V" } : Jvm.MethodName)) ∈ lw_tbl := lw_at lw_m5 5 rfl
theorem q1051 : (Jvm.Cond.instanceMethod ({ cls := "ShellBeach", name := "findPartings", desc := "()V" } : Jvm.MethodName)) ∈ lw_all := lw_g (lw_at lw_m5 6 rfl) rfl
theorem q1052 : (Jvm.Cond.code ({ cls := "ShellBeach", name := "findPartings", desc := "()V" } : Jvm.MethodName) prog_1_method_38_code (1 : Nat) (Option.none : Option Jvm.ClassFile.FieldType)) ∈ lw_all := lw_g (lw_at lw_m5 7 rfl) rfl
theorem q1053 : (Jvm.Cond.constant "ShellBeach" (304 : Nat) (-2147483648 : Int32)) ∈ lw_all := lw_g (lw_at lw_m5 8 rfl) rfl
theorem q1054 : (Jvm.Cond.methodLink "ShellBeach" (300 : Nat) ({ cls := "ShellBeach", name := "goThrough", desc := "(III)V" } : Jvm.MethodName)) ∈ lw_all := lw_g (lw_at lw_m5 9 rfl) rfl
theorem q1055 : (Jvm.Cond.privateMethod ({ cls := "ShellBeach", name := "goThrough", desc := "(III)V" } : Jvm.MethodName)) ∈ lw_tbl := lw_at lw_m5 10 rfl
theorem q1056 : (Jvm.Cond.instanceMethod ({ cls := "ShellBeach", name := "goThrough", desc := "(III)V" } : Jvm.MethodName)) ∈ lw_all := lw_g (lw_at lw_m5 11 rfl) rfl
theorem q1057 : (Jvm.Cond.code ({ cls := "ShellBeach", name := "goThrough", desc := "(III)V" } : Jvm.MethodName) prog_1_method_37_code (6 : Nat) (Option.none : Option Jvm.ClassFile.FieldType)) ∈ lw_all := lw_g (lw_at lw_m5 12 rfl) rfl
theorem q1058 : (Jvm.Cond.methodLink "ShellBeach" (288 : Nat) ({ cls := "ShellBeach", name := "isCalm", desc := "()Z" } : Jvm.MethodName)) ∈ lw_all := lw_g (lw_at lw_m5 13 rfl) rfl
theorem q1059 : (Jvm.Cond.privateMethod ({ cls := "ShellBeach", name := "isCalm", desc := "()Z" } : Jvm.MethodName)) ∈ lw_tbl := lw_at lw_m5 14 rfl
theorem q1060 : (Jvm.Cond.instanceMethod ({ cls := "ShellBeach", name := "isCalm", desc := "()Z" } : Jvm.MethodName)) ∈ lw_all := lw_g (lw_at lw_m5 15 rfl) rfl
theorem q1061 : (Jvm.Cond.code ({ cls := "ShellBeach", name := "isCalm", desc := "()Z" } : Jvm.MethodName) prog_1_method_36_code (3 : Nat) (Option.some Jvm.ClassFile.FieldType.boolean)) ∈ lw_all := lw_g (lw_at lw_m5 16 rfl) rfl
theorem q1062 : (Jvm.Cond.methodLink "ShellBeach" (281 : Nat) ({ cls := "ShellBeach", name := "wouldBoth", desc := "(LShellBeach$Crab;LShellBeach$Shell;LShellBeach$Crab;LShellBeach$Shell;)Z" } : Jvm.MethodName)) ∈ lw_all := lw_g (lw_at lw_m5 17 rfl) rfl
theorem q1063 : (Jvm.Cond.static ({ cls := "ShellBeach", name := "wouldBoth", desc := "(LShellBeach$Crab;LShellBeach$Shell;LShellBeach$Crab;LShellBeach$Shell;)Z" } : Jvm.MethodName)) ∈ lw_all := lw_g (lw_at lw_m5 18 rfl) rfl
theorem q1064 : (Jvm.Cond.code ({ cls := "ShellBeach", name := "wouldBoth", desc := "(LShellBeach$Crab;LShellBeach$Shell;LShellBeach$Crab;LShellBeach$Shell;)Z" } : Jvm.MethodName) prog_1_method_35_code (4 : Nat) (Option.some Jvm.ClassFile.FieldType.boolean)) ∈ lw_all := lw_g (lw_at lw_m5 19 rfl) rfl
theorem q1065 : (Jvm.Cond.methodLink "ShellBeach" (294 : Nat) ({ cls := "java/lang/System", name := "arraycopy", desc := "(Ljava/lang/Object;ILjava/lang/Object;II)V" } : Jvm.MethodName)) ∈ lw_all := lw_g (lw_at lw_m5 20 rfl) rfl
theorem q1067 : (Jvm.Cond.instanceMethod ({ cls := "ShellBeach", name := "calm", desc := "(I)I" } : Jvm.MethodName)) ∈ lw_all := lw_g (lw_at lw_m5 22 rfl) rfl
theorem q1068 : (Jvm.Cond.selects "ShellBeach" ({ cls := "ShellBeach", name := "calm", desc := "(I)I" } : Jvm.MethodName) ({ cls := "ShellBeach", name := "calm", desc := "(I)I" } : Jvm.MethodName)) ∈ lw_all := lw_g (lw_at lw_m5 23 rfl) rfl
theorem q1069 : (Jvm.Cond.code ({ cls := "ShellBeach", name := "calm", desc := "(I)I" } : Jvm.MethodName) prog_1_method_40_code (3 : Nat) (Option.some Jvm.ClassFile.FieldType.int)) ∈ lw_all := lw_g (lw_at lw_m5 24 rfl) rfl
theorem q1071 : (Jvm.Cond.instanceMethod ({ cls := "ShellBeach", name := "pairs", desc := "()I" } : Jvm.MethodName)) ∈ lw_all := lw_g (lw_at lw_m5 26 rfl) rfl
theorem q1072 : (Jvm.Cond.selects "ShellBeach" ({ cls := "ShellBeach", name := "pairs", desc := "()I" } : Jvm.MethodName) ({ cls := "ShellBeach", name := "pairs", desc := "()I" } : Jvm.MethodName)) ∈ lw_all := lw_g (lw_at lw_m5 27 rfl) rfl
theorem q1073 : (Jvm.Cond.code ({ cls := "ShellBeach", name := "pairs", desc := "()I" } : Jvm.MethodName) prog_1_method_41_code (4 : Nat) (Option.some Jvm.ClassFile.FieldType.int)) ∈ lw_all := lw_g (lw_at lw_m5 28 rfl) rfl
theorem q1075 : (Jvm.Cond.instanceMethod ({ cls := "ShellBeach", name := "film", desc := "(IIIIIII)I" } : Jvm.MethodName)) ∈ lw_all := lw_g (lw_at lw_m5 30 rfl) rfl
theorem q1076 : (Jvm.Cond.selects "ShellBeach" ({ cls := "ShellBeach", name := "film", desc := "(IIIIIII)I" } : Jvm.MethodName) ({ cls := "ShellBeach", name := "film", desc := "(IIIIIII)I" } : Jvm.MethodName)) ∈ lw_all := lw_g (lw_at lw_m5 31 rfl) rfl
theorem q1077 : (Jvm.Cond.code ({ cls := "ShellBeach", name := "film", desc := "(IIIIIII)I" } : Jvm.MethodName) prog_1_method_42_code (8 : Nat) (Option.some Jvm.ClassFile.FieldType.int)) ∈ lw_all := lw_g (lw_at lw_m5 32 rfl) rfl
theorem q1078 : (Jvm.Cond.classLink "ShellBeach" (311 : Nat) "ShellBeach$Film") ∈ lw_all := lw_g (lw_at lw_m5 33 rfl) rfl
theorem q1080 : (Jvm.Cond.methodLink "ShellBeach" (313 : Nat) ({ cls := "ShellBeach$Film", name := "<init>", desc := "(IIIIIII)V" } : Jvm.MethodName)) ∈ lw_all := lw_g (lw_at lw_m5 35 rfl) rfl
theorem q1107 : (Jvm.Cond.instanceMethod ({ cls := "ShellBeach", name := "reads", desc := "(II)I" } : Jvm.MethodName)) ∈ lw_all := lw_g (lw_at lw_m5 62 rfl) rfl
theorem q1108 : (Jvm.Cond.selects "ShellBeach" ({ cls := "ShellBeach", name := "reads", desc := "(II)I" } : Jvm.MethodName) ({ cls := "ShellBeach", name := "reads", desc := "(II)I" } : Jvm.MethodName)) ∈ lw_all := lw_g (lw_at lw_m5 63 rfl) rfl
theorem q1109 : (Jvm.Cond.code ({ cls := "ShellBeach", name := "reads", desc := "(II)I" } : Jvm.MethodName) prog_1_method_44_code (4 : Nat) (Option.some Jvm.ClassFile.FieldType.int)) ∈ lw_all := lw_g (lw_at lw_m5 64 rfl) rfl
theorem q1110 : (Jvm.Cond.methodLink "ShellBeach" (323 : Nat) ({ cls := "ShellBeach", name := "agreeing", desc := "(LShellBeach$Habit;Z)I" } : Jvm.MethodName)) ∈ lw_all := lw_g (lw_at lw_m5 65 rfl) rfl
theorem q1111 : (Jvm.Cond.privateMethod ({ cls := "ShellBeach", name := "agreeing", desc := "(LShellBeach$Habit;Z)I" } : Jvm.MethodName)) ∈ lw_tbl := lw_at lw_m5 66 rfl
theorem q1112 : (Jvm.Cond.instanceMethod ({ cls := "ShellBeach", name := "agreeing", desc := "(LShellBeach$Habit;Z)I" } : Jvm.MethodName)) ∈ lw_all := lw_g (lw_at lw_m5 67 rfl) rfl
theorem q1113 : (Jvm.Cond.code ({ cls := "ShellBeach", name := "agreeing", desc := "(LShellBeach$Habit;Z)I" } : Jvm.MethodName) prog_1_method_43_code (5 : Nat) (Option.some Jvm.ClassFile.FieldType.int)) ∈ lw_all := lw_g (lw_at lw_m5 68 rfl) rfl
theorem q1114 : (Jvm.Cond.methodLink "ShellBeach" (316 : Nat) ({ cls := "ShellBeach$Film", name := "isSeen", desc := "()Z" } : Jvm.MethodName)) ∈ lw_all := lw_g (lw_at lw_m5 69 rfl) rfl
theorem q1118 : (Jvm.Cond.methodLink "ShellBeach" (319 : Nat) ({ cls := "ShellBeach$Film", name := "agrees", desc := "(LShellBeach$Habit;)Z" } : Jvm.MethodName)) ∈ lw_all := lw_g (lw_at lw_m5 73 rfl) rfl
theorem q1124 : (Jvm.Cond.instanceMethod ({ cls := "ShellBeach", name := "sure", desc := "()I" } : Jvm.MethodName)) ∈ lw_all := lw_g (lw_at lw_m5 79 rfl) rfl
theorem q1125 : (Jvm.Cond.selects "ShellBeach" ({ cls := "ShellBeach", name := "sure", desc := "()I" } : Jvm.MethodName) ({ cls := "ShellBeach", name := "sure", desc := "()I" } : Jvm.MethodName)) ∈ lw_all := lw_g (lw_at lw_m5 80 rfl) rfl
theorem q1126 : (Jvm.Cond.code ({ cls := "ShellBeach", name := "sure", desc := "()I" } : Jvm.MethodName) prog_1_method_45_code (3 : Nat) (Option.some Jvm.ClassFile.FieldType.int)) ∈ lw_all := lw_g (lw_at lw_m5 81 rfl) rfl
theorem q1128 : (Jvm.Cond.instanceMethod ({ cls := "ShellBeach", name := "mend", desc := "(IIII)I" } : Jvm.MethodName)) ∈ lw_all := lw_g (lw_at lw_m5 83 rfl) rfl
theorem q1129 : (Jvm.Cond.selects "ShellBeach" ({ cls := "ShellBeach", name := "mend", desc := "(IIII)I" } : Jvm.MethodName) ({ cls := "ShellBeach", name := "mend", desc := "(IIII)I" } : Jvm.MethodName)) ∈ lw_all := lw_g (lw_at lw_m5 84 rfl) rfl
theorem q1130 : (Jvm.Cond.code ({ cls := "ShellBeach", name := "mend", desc := "(IIII)I" } : Jvm.MethodName) prog_1_method_49_code (6 : Nat) (Option.some Jvm.ClassFile.FieldType.int)) ∈ lw_all := lw_g (lw_at lw_m5 85 rfl) rfl
theorem q1131 : (Jvm.Cond.methodLink "ShellBeach" (356 : Nat) ({ cls := "ShellBeach", name := "findMend", desc := "(LShellBeach$Habit;II)Z" } : Jvm.MethodName)) ∈ lw_all := lw_g (lw_at lw_m5 86 rfl) rfl
theorem q1132 : (Jvm.Cond.privateMethod ({ cls := "ShellBeach", name := "findMend", desc := "(LShellBeach$Habit;II)Z" } : Jvm.MethodName)) ∈ lw_tbl := lw_at lw_m5 87 rfl
theorem q1133 : (Jvm.Cond.instanceMethod ({ cls := "ShellBeach", name := "findMend", desc := "(LShellBeach$Habit;II)Z" } : Jvm.MethodName)) ∈ lw_all := lw_g (lw_at lw_m5 88 rfl) rfl
theorem q1134 : (Jvm.Cond.code ({ cls := "ShellBeach", name := "findMend", desc := "(LShellBeach$Habit;II)Z" } : Jvm.MethodName) prog_1_method_48_code (7 : Nat) (Option.some Jvm.ClassFile.FieldType.boolean)) ∈ lw_all := lw_g (lw_at lw_m5 89 rfl) rfl
theorem q1135 : (Jvm.Cond.classLink "ShellBeach" (331 : Nat) "ShellBeach$Image") ∈ lw_all := lw_g (lw_at lw_m5 90 rfl) rfl
theorem q1137 : (Jvm.Cond.methodLink "ShellBeach" (351 : Nat) ({ cls := "ShellBeach$Image", name := "<init>", desc := "(LShellBeach;)V" } : Jvm.MethodName)) ∈ lw_all := lw_g (lw_at lw_m5 92 rfl) rfl
theorem q1185 : (Jvm.Cond.methodLink "ShellBeach" (341 : Nat) ({ cls := "ShellBeach", name := "isEnough", desc := "(LShellBeach$Image;II)Z" } : Jvm.MethodName)) ∈ lw_all := lw_g (lw_at lw_m5 140 rfl) rfl
theorem q1186 : (Jvm.Cond.privateMethod ({ cls := "ShellBeach", name := "isEnough", desc := "(LShellBeach$Image;II)Z" } : Jvm.MethodName)) ∈ lw_tbl := lw_at lw_m5 141 rfl
theorem q1187 : (Jvm.Cond.instanceMethod ({ cls := "ShellBeach", name := "isEnough", desc := "(LShellBeach$Image;II)Z" } : Jvm.MethodName)) ∈ lw_all := lw_g (lw_at lw_m5 142 rfl) rfl
theorem q1188 : (Jvm.Cond.code ({ cls := "ShellBeach", name := "isEnough", desc := "(LShellBeach$Image;II)Z" } : Jvm.MethodName) prog_1_method_46_code (5 : Nat) (Option.some Jvm.ClassFile.FieldType.boolean)) ∈ lw_all := lw_g (lw_at lw_m5 143 rfl) rfl
theorem q1189 : (Jvm.Cond.methodLink "ShellBeach" (327 : Nat) ({ cls := "ShellBeach", name := "points", desc := "()I" } : Jvm.MethodName)) ∈ lw_all := lw_g (lw_at lw_m5 144 rfl) rfl
theorem q1190 : (Jvm.Cond.methodLink "ShellBeach" (330 : Nat) ({ cls := "ShellBeach$Image", name := "putBack", desc := "()V" } : Jvm.MethodName)) ∈ lw_all := lw_g (lw_at lw_m5 145 rfl) rfl
theorem q1207 : (Jvm.Cond.methodLink "ShellBeach" (352 : Nat) ({ cls := "ShellBeach", name := "mends", desc := "(LShellBeach$Image;LShellBeach$Habit;IIII)Z" } : Jvm.MethodName)) ∈ lw_all := lw_g (lw_at lw_m5 162 rfl) rfl
theorem q1208 : (Jvm.Cond.privateMethod ({ cls := "ShellBeach", name := "mends", desc := "(LShellBeach$Image;LShellBeach$Habit;IIII)Z" } : Jvm.MethodName)) ∈ lw_tbl := lw_at lw_m5 163 rfl
theorem q1209 : (Jvm.Cond.instanceMethod ({ cls := "ShellBeach", name := "mends", desc := "(LShellBeach$Image;LShellBeach$Habit;IIII)Z" } : Jvm.MethodName)) ∈ lw_all := lw_g (lw_at lw_m5 164 rfl) rfl
theorem q1210 : (Jvm.Cond.code ({ cls := "ShellBeach", name := "mends", desc := "(LShellBeach$Image;LShellBeach$Habit;IIII)Z" } : Jvm.MethodName) prog_1_method_47_code (9 : Nat) (Option.some Jvm.ClassFile.FieldType.boolean)) ∈ lw_all := lw_g (lw_at lw_m5 165 rfl) rfl
theorem q1211 : (Jvm.Cond.classLink "ShellBeach" (338 : Nat) "ShellBeach$Fact") ∈ lw_all := lw_g (lw_at lw_m5 166 rfl) rfl
theorem q1213 : (Jvm.Cond.instanceMethod ({ cls := "ShellBeach", name := "act", desc := "(III)I" } : Jvm.MethodName)) ∈ lw_all := lw_g (lw_at lw_m5 168 rfl) rfl
theorem q1214 : (Jvm.Cond.selects "ShellBeach" ({ cls := "ShellBeach", name := "act", desc := "(III)I" } : Jvm.MethodName) ({ cls := "ShellBeach", name := "act", desc := "(III)I" } : Jvm.MethodName)) ∈ lw_all := lw_g (lw_at lw_m5 169 rfl) rfl
theorem q1215 : (Jvm.Cond.code ({ cls := "ShellBeach", name := "act", desc := "(III)I" } : Jvm.MethodName) prog_1_method_50_code (5 : Nat) (Option.some Jvm.ClassFile.FieldType.int)) ∈ lw_all := lw_g (lw_at lw_m5 170 rfl) rfl
theorem q1216 : (Jvm.Cond.methodLink "ShellBeach" (360 : Nat) ({ cls := "ShellBeach$Way", name := "fits", desc := "(I)I" } : Jvm.MethodName)) ∈ lw_all := lw_g (lw_at lw_m5 171 rfl) rfl
theorem q1225 : (Jvm.Cond.privateMethod ({ cls := "ShellBeach", name := "body", desc := "(I)V" } : Jvm.MethodName)) ∈ lw_tbl := lw_at lw_m5 180 rfl
theorem q1226 : (Jvm.Cond.instanceMethod ({ cls := "ShellBeach", name := "body", desc := "(I)V" } : Jvm.MethodName)) ∈ lw_all := lw_g (lw_at lw_m5 181 rfl) rfl
theorem q1227 : (Jvm.Cond.code ({ cls := "ShellBeach", name := "body", desc := "(I)V" } : Jvm.MethodName) prog_1_method_7_code (2 : Nat) (Option.none : Option Jvm.ClassFile.FieldType)) ∈ lw_all := lw_g (lw_at lw_m5 182 rfl) rfl
theorem q1239 : (Jvm.Cond.methodLink "ShellBeach" (363 : Nat) ({ cls := "ShellBeach$Way", name := "asks", desc := "(I)I" } : Jvm.MethodName)) ∈ lw_all := lw_g (lw_at lw_m5 194 rfl) rfl
theorem q1265 : (Jvm.Cond.methodLink "ShellBeach" (366 : Nat) ({ cls := "ShellBeach$Way", name := "moves", desc := "(I)I" } : Jvm.MethodName)) ∈ lw_all := lw_g (lw_at lw_m5 220 rfl) rfl
theorem q1288 : (Jvm.Cond.instanceMethod ({ cls := "ShellBeach", name := "trace", desc := "(I)I" } : Jvm.MethodName)) ∈ lw_all := lw_g (lw_at lw_m6 3 rfl) rfl
theorem q1289 : (Jvm.Cond.selects "ShellBeach" ({ cls := "ShellBeach", name := "trace", desc := "(I)I" } : Jvm.MethodName) ({ cls := "ShellBeach", name := "trace", desc := "(I)I" } : Jvm.MethodName)) ∈ lw_all := lw_g (lw_at lw_m6 4 rfl) rfl
theorem q1290 : (Jvm.Cond.code ({ cls := "ShellBeach", name := "trace", desc := "(I)I" } : Jvm.MethodName) prog_1_method_51_code (2 : Nat) (Option.some Jvm.ClassFile.FieldType.int)) ∈ lw_all := lw_g (lw_at lw_m6 5 rfl) rfl
theorem q1292 : (Jvm.Cond.instanceMethod ({ cls := "ShellBeach", name := "as", desc := "(II)I" } : Jvm.MethodName)) ∈ lw_all := lw_g (lw_at lw_m6 7 rfl) rfl
theorem q1293 : (Jvm.Cond.selects "ShellBeach" ({ cls := "ShellBeach", name := "as", desc := "(II)I" } : Jvm.MethodName) ({ cls := "ShellBeach", name := "as", desc := "(II)I" } : Jvm.MethodName)) ∈ lw_all := lw_g (lw_at lw_m6 8 rfl) rfl
theorem q1294 : (Jvm.Cond.code ({ cls := "ShellBeach", name := "as", desc := "(II)I" } : Jvm.MethodName) prog_1_method_52_code (4 : Nat) (Option.some Jvm.ClassFile.FieldType.int)) ∈ lw_all := lw_g (lw_at lw_m6 9 rfl) rfl
theorem q1295 : (Jvm.Cond.methodLink "ShellBeach" (369 : Nat) ({ cls := "ShellBeach$Way", name := "isUnder", desc := "(I)Z" } : Jvm.MethodName)) ∈ lw_all := lw_g (lw_at lw_m6 10 rfl) rfl
theorem q1325 : (Jvm.Cond.instanceMethod ({ cls := "ShellBeach", name := "image", desc := "()I" } : Jvm.MethodName)) ∈ lw_all := lw_g (lw_at lw_m6 40 rfl) rfl
theorem q1326 : (Jvm.Cond.selects "ShellBeach" ({ cls := "ShellBeach", name := "image", desc := "()I" } : Jvm.MethodName) ({ cls := "ShellBeach", name := "image", desc := "()I" } : Jvm.MethodName)) ∈ lw_all := lw_g (lw_at lw_m6 41 rfl) rfl
theorem q1327 : (Jvm.Cond.code ({ cls := "ShellBeach", name := "image", desc := "()I" } : Jvm.MethodName) prog_1_method_53_code (1 : Nat) (Option.some Jvm.ClassFile.FieldType.int)) ∈ lw_all := lw_g (lw_at lw_m6 42 rfl) rfl
theorem q1329 : (Jvm.Cond.instanceMethod ({ cls := "ShellBeach", name := "undo", desc := "()I" } : Jvm.MethodName)) ∈ lw_all := lw_g (lw_at lw_m6 44 rfl) rfl
theorem q1330 : (Jvm.Cond.selects "ShellBeach" ({ cls := "ShellBeach", name := "undo", desc := "()I" } : Jvm.MethodName) ({ cls := "ShellBeach", name := "undo", desc := "()I" } : Jvm.MethodName)) ∈ lw_all := lw_g (lw_at lw_m6 45 rfl) rfl
theorem q1331 : (Jvm.Cond.code ({ cls := "ShellBeach", name := "undo", desc := "()I" } : Jvm.MethodName) prog_1_method_54_code (1 : Nat) (Option.some Jvm.ClassFile.FieldType.int)) ∈ lw_all := lw_g (lw_at lw_m6 46 rfl) rfl
theorem q1333 : (Jvm.Cond.instanceMethod ({ cls := "ShellBeach", name := "count", desc := "(I)I" } : Jvm.MethodName)) ∈ lw_all := lw_g (lw_at lw_m6 48 rfl) rfl
theorem q1334 : (Jvm.Cond.selects "ShellBeach" ({ cls := "ShellBeach", name := "count", desc := "(I)I" } : Jvm.MethodName) ({ cls := "ShellBeach", name := "count", desc := "(I)I" } : Jvm.MethodName)) ∈ lw_all := lw_g (lw_at lw_m6 49 rfl) rfl
theorem q1335 : (Jvm.Cond.code ({ cls := "ShellBeach", name := "count", desc := "(I)I" } : Jvm.MethodName) prog_1_method_55_code (4 : Nat) (Option.some Jvm.ClassFile.FieldType.int)) ∈ lw_all := lw_g (lw_at lw_m6 50 rfl) rfl
theorem q1876 : (Jvm.Cond.castable "ShellBeach" "java/lang/Object") ∈ lw_tbl := lw_at lw_m8 111 rfl
theorem in_X0 : ∀ w ∈ wsX00, w ∈ lw_all := lw_in wsX00 [249, 251, 253, 255, 257, 259, 261, 263, 265, 267, 269, 271, 273, 275, 277, 279, 281, 283, 285, 287, 289, 291, 293, 295, 297, 299, 301] (by decide +kernel) (by decide +kernel)
