set_option maxRecDepth 100000
theorem dX3_end_10 : decode cX3_end 10 = .ok (.iconst 2, 1) := by decide +kernel
theorem dX3_end_11 : decode cX3_end 11 = .ok (.invokestatic 69, 3) := by decide +kernel
theorem dX3_end_14 : decode cX3_end 14 = .ok (.ifCond .ne 5, 3) := by decide +kernel
theorem dX3_end_17 : decode cX3_end 17 = .ok (.iconst (-1), 1) := by decide +kernel
theorem dX3_end_18 : decode cX3_end 18 = .ok (.ireturn, 1) := by decide +kernel
theorem dX3_end_19 : decode cX3_end 19 = .ok (.aload_n 0, 1) := by decide +kernel
theorem dX3_end_20 : decode cX3_end 20 = .ok (.getfield 7, 3) := by decide +kernel
theorem dX3_end_23 : decode cX3_end 23 = .ok (.bipush 90, 2) := by decide +kernel
theorem dX3_end_25 : decode cX3_end 25 = .ok (.iload_n 1, 1) := by decide +kernel
theorem dX3_end_26 : decode cX3_end 26 = .ok (.iadd, 1) := by decide +kernel
theorem dX3_end_27 : decode cX3_end 27 = .ok (.iaload, 1) := by decide +kernel
theorem dX3_end_28 : decode cX3_end 28 = .ok (.istore_n 3, 1) := by decide +kernel
theorem dX3_end_29 : decode cX3_end 29 = .ok (.iload_n 3, 1) := by decide +kernel
theorem dX3_end_30 : decode cX3_end 30 = .ok (.iconst 4, 1) := by decide +kernel
theorem dX3_end_31 : decode cX3_end 31 = .ok (.if_icmp .eq 22, 3) := by decide +kernel
theorem dX3_end_34 : decode cX3_end 34 = .ok (.iload_n 2, 1) := by decide +kernel
theorem dX3_end_35 : decode cX3_end 35 = .ok (.iconst 1, 1) := by decide +kernel
theorem dX3_end_36 : decode cX3_end 36 = .ok (.if_icmp .ne 7, 3) := by decide +kernel
theorem dX3_end_39 : decode cX3_end 39 = .ok (.iload_n 3, 1) := by decide +kernel
theorem dX3_end_40 : decode cX3_end 40 = .ok (.ifCond .ne 13, 3) := by decide +kernel
theorem dX3_end_43 : decode cX3_end 43 = .ok (.iload_n 2, 1) := by decide +kernel
theorem dX3_end_44 : decode cX3_end 44 = .ok (.iconst 2, 1) := by decide +kernel
theorem dX3_end_45 : decode cX3_end 45 = .ok (.if_icmp .ne 11, 3) := by decide +kernel
theorem dX3_end_48 : decode cX3_end 48 = .ok (.iload_n 3, 1) := by decide +kernel
theorem dX3_end_49 : decode cX3_end 49 = .ok (.iconst 3, 1) := by decide +kernel
theorem dX3_end_50 : decode cX3_end 50 = .ok (.if_icmp .eq 6, 3) := by decide +kernel
theorem dX3_end_53 : decode cX3_end 53 = .ok (.bipush (-3), 2) := by decide +kernel
theorem dX3_end_55 : decode cX3_end 55 = .ok (.ireturn, 1) := by decide +kernel
theorem dX3_end_56 : decode cX3_end 56 = .ok (.iload_n 2, 1) := by decide +kernel
theorem dX3_end_57 : decode cX3_end 57 = .ok (.ifCond .ne 66, 3) := by decide +kernel
theorem dX3_end_60 : decode cX3_end 60 = .ok (.aload_n 0, 1) := by decide +kernel
theorem dX3_end_61 : decode cX3_end 61 = .ok (.getfield 7, 3) := by decide +kernel
theorem dX3_end_64 : decode cX3_end 64 = .ok (.bipush 110, 2) := by decide +kernel
theorem dX3_end_66 : decode cX3_end 66 = .ok (.iload_n 1, 1) := by decide +kernel
theorem dX3_end_67 : decode cX3_end 67 = .ok (.iadd, 1) := by decide +kernel
theorem dX3_end_68 : decode cX3_end 68 = .ok (.iaload, 1) := by decide +kernel
theorem dX3_end_69 : decode cX3_end 69 = .ok (.istore 4, 2) := by decide +kernel
theorem dX3_end_71 : decode cX3_end 71 = .ok (.iload 4, 2) := by decide +kernel
theorem dX3_end_73 : decode cX3_end 73 = .ok (.iconst (-1), 1) := by decide +kernel
theorem dX3_end_74 : decode cX3_end 74 = .ok (.if_icmp .eq 39, 3) := by decide +kernel
theorem dX3_end_77 : decode cX3_end 77 = .ok (.aload_n 0, 1) := by decide +kernel
theorem dX3_end_78 : decode cX3_end 78 = .ok (.getfield 7, 3) := by decide +kernel
theorem dX3_end_81 : decode cX3_end 81 = .ok (.sipush 166, 3) := by decide +kernel
theorem dX3_end_84 : decode cX3_end 84 = .ok (.iload 4, 2) := by decide +kernel
theorem dX3_end_86 : decode cX3_end 86 = .ok (.iadd, 1) := by decide +kernel
theorem dX3_end_87 : decode cX3_end 87 = .ok (.iconst 1, 1) := by decide +kernel
theorem dX3_end_88 : decode cX3_end 88 = .ok (.iastore, 1) := by decide +kernel
theorem dX3_end_89 : decode cX3_end 89 = .ok (.aload_n 0, 1) := by decide +kernel
theorem dX3_end_90 : decode cX3_end 90 = .ok (.getfield 7, 3) := by decide +kernel
theorem dX3_end_93 : decode cX3_end 93 = .ok (.sipush 178, 3) := by decide +kernel
theorem dX3_end_96 : decode cX3_end 96 = .ok (.iload 4, 2) := by decide +kernel
theorem dX3_end_98 : decode cX3_end 98 = .ok (.iadd, 1) := by decide +kernel
theorem dX3_end_99 : decode cX3_end 99 = .ok (.iconst (-1), 1) := by decide +kernel
theorem dX3_end_100 : decode cX3_end 100 = .ok (.iastore, 1) := by decide +kernel
theorem dX3_end_101 : decode cX3_end 101 = .ok (.aload_n 0, 1) := by decide +kernel
theorem dX3_end_102 : decode cX3_end 102 = .ok (.getfield 7, 3) := by decide +kernel
theorem dX3_end_105 : decode cX3_end 105 = .ok (.sipush 190, 3) := by decide +kernel
theorem dX3_end_108 : decode cX3_end 108 = .ok (.iload 4, 2) := by decide +kernel
theorem dX3_end_110 : decode cX3_end 110 = .ok (.iadd, 1) := by decide +kernel
theorem dX3_end_111 : decode cX3_end 111 = .ok (.iconst 0, 1) := by decide +kernel
theorem dX3_end_112 : decode cX3_end 112 = .ok (.iastore, 1) := by decide +kernel
theorem dX3_end_113 : decode cX3_end 113 = .ok (.aload_n 0, 1) := by decide +kernel
theorem dX3_end_114 : decode cX3_end 114 = .ok (.getfield 7, 3) := by decide +kernel
theorem dX3_end_117 : decode cX3_end 117 = .ok (.bipush 110, 2) := by decide +kernel
theorem dX3_end_119 : decode cX3_end 119 = .ok (.iload_n 1, 1) := by decide +kernel
theorem dX3_end_120 : decode cX3_end 120 = .ok (.iadd, 1) := by decide +kernel
theorem dX3_end_121 : decode cX3_end 121 = .ok (.iconst (-1), 1) := by decide +kernel
theorem dX3_end_122 : decode cX3_end 122 = .ok (.iastore, 1) := by decide +kernel
theorem dX3_end_123 : decode cX3_end 123 = .ok (.aload_n 0, 1) := by decide +kernel
theorem dX3_end_124 : decode cX3_end 124 = .ok (.getfield 7, 3) := by decide +kernel
theorem dX3_end_127 : decode cX3_end 127 = .ok (.bipush 90, 2) := by decide +kernel
theorem dX3_end_129 : decode cX3_end 129 = .ok (.iload_n 1, 1) := by decide +kernel
theorem dX3_end_130 : decode cX3_end 130 = .ok (.iadd, 1) := by decide +kernel
theorem dX3_end_131 : decode cX3_end 131 = .ok (.iload_n 2, 1) := by decide +kernel
theorem dX3_end_132 : decode cX3_end 132 = .ok (.ifCond .ne 7, 3) := by decide +kernel
theorem dX3_end_135 : decode cX3_end 135 = .ok (.iconst 4, 1) := by decide +kernel
theorem dX3_end_136 : decode cX3_end 136 = .ok (.goto 13, 3) := by decide +kernel
theorem dX3_end_139 : decode cX3_end 139 = .ok (.iload_n 2, 1) := by decide +kernel
theorem dX3_end_140 : decode cX3_end 140 = .ok (.iconst 1, 1) := by decide +kernel
theorem dX3_end_141 : decode cX3_end 141 = .ok (.if_icmp .ne 7, 3) := by decide +kernel
theorem dX3_end_144 : decode cX3_end 144 = .ok (.iconst 3, 1) := by decide +kernel
theorem dX3_end_145 : decode cX3_end 145 = .ok (.goto 4, 3) := by decide +kernel
theorem dX3_end_148 : decode cX3_end 148 = .ok (.iconst 0, 1) := by decide +kernel
theorem dX3_end_149 : decode cX3_end 149 = .ok (.iastore, 1) := by decide +kernel
theorem dX3_end_150 : decode cX3_end 150 = .ok (.iload_n 3, 1) := by decide +kernel
theorem dX3_end_151 : decode cX3_end 151 = .ok (.ireturn, 1) := by decide +kernel
abbrev cX3_eat : ByteArray := prog_22_method_25_code
def yX3_eat : MethodName := ⟨RX3, "eat", "(I)I"⟩
theorem dX3_eat_0 : decode cX3_eat 0 = .ok (.iload_n 1, 1) := by decide +kernel
theorem dX3_eat_1 : decode cX3_eat 1 = .ok (.invokestatic 88, 3) := by decide +kernel
theorem dX3_eat_4 : decode cX3_eat 4 = .ok (.ifCond .ne 5, 3) := by decide +kernel
theorem dX3_eat_7 : decode cX3_eat 7 = .ok (.iconst (-1), 1) := by decide +kernel
theorem dX3_eat_8 : decode cX3_eat 8 = .ok (.ireturn, 1) := by decide +kernel
theorem dX3_eat_9 : decode cX3_eat 9 = .ok (.iconst 0, 1) := by decide +kernel
theorem dX3_eat_10 : decode cX3_eat 10 = .ok (.istore_n 2, 1) := by decide +kernel
theorem dX3_eat_11 : decode cX3_eat 11 = .ok (.iconst 0, 1) := by decide +kernel
theorem dX3_eat_12 : decode cX3_eat 12 = .ok (.istore_n 3, 1) := by decide +kernel
theorem dX3_eat_13 : decode cX3_eat 13 = .ok (.iload_n 3, 1) := by decide +kernel
theorem dX3_eat_14 : decode cX3_eat 14 = .ok (.aload_n 0, 1) := by decide +kernel
theorem dX3_eat_15 : decode cX3_eat 15 = .ok (.getfield 7, 3) := by decide +kernel
theorem dX3_eat_18 : decode cX3_eat 18 = .ok (.iconst 1, 1) := by decide +kernel
theorem dX3_eat_19 : decode cX3_eat 19 = .ok (.iaload, 1) := by decide +kernel
theorem dX3_eat_20 : decode cX3_eat 20 = .ok (.if_icmp .ge 101, 3) := by decide +kernel
theorem dX3_eat_23 : decode cX3_eat 23 = .ok (.aload_n 0, 1) := by decide +kernel
theorem dX3_eat_24 : decode cX3_eat 24 = .ok (.getfield 7, 3) := by decide +kernel
theorem dX3_eat_27 : decode cX3_eat 27 = .ok (.sipush 166, 3) := by decide +kernel
theorem dX3_eat_30 : decode cX3_eat 30 = .ok (.iload_n 3, 1) := by decide +kernel
theorem dX3_eat_31 : decode cX3_eat 31 = .ok (.iadd, 1) := by decide +kernel
theorem dX3_eat_32 : decode cX3_eat 32 = .ok (.iaload, 1) := by decide +kernel
theorem dX3_eat_33 : decode cX3_eat 33 = .ok (.iconst 1, 1) := by decide +kernel
theorem dX3_eat_34 : decode cX3_eat 34 = .ok (.if_icmp .ne 81, 3) := by decide +kernel
theorem dX3_eat_37 : decode cX3_eat 37 = .ok (.aload_n 0, 1) := by decide +kernel
theorem dX3_eat_38 : decode cX3_eat 38 = .ok (.getfield 7, 3) := by decide +kernel
theorem dX3_eat_41 : decode cX3_eat 41 = .ok (.sipush 142, 3) := by decide +kernel
theorem dX3_eat_44 : decode cX3_eat 44 = .ok (.iload_n 3, 1) := by decide +kernel
theorem dX3_eat_45 : decode cX3_eat 45 = .ok (.iadd, 1) := by decide +kernel
theorem dX3_eat_46 : decode cX3_eat 46 = .ok (.iaload, 1) := by decide +kernel
theorem dX3_eat_47 : decode cX3_eat 47 = .ok (.iload_n 1, 1) := by decide +kernel
theorem dX3_eat_48 : decode cX3_eat 48 = .ok (.if_icmp .ne 67, 3) := by decide +kernel
theorem dX3_eat_51 : decode cX3_eat 51 = .ok (.aload_n 0, 1) := by decide +kernel
theorem dX3_eat_52 : decode cX3_eat 52 = .ok (.getfield 7, 3) := by decide +kernel
theorem dX3_eat_55 : decode cX3_eat 55 = .ok (.sipush 178, 3) := by decide +kernel
theorem dX3_eat_58 : decode cX3_eat 58 = .ok (.iload_n 3, 1) := by decide +kernel
theorem dX3_eat_59 : decode cX3_eat 59 = .ok (.iadd, 1) := by decide +kernel
theorem dX3_eat_60 : decode cX3_eat 60 = .ok (.iaload, 1) := by decide +kernel
theorem dX3_eat_61 : decode cX3_eat 61 = .ok (.iconst (-1), 1) := by decide +kernel
theorem dX3_eat_62 : decode cX3_eat 62 = .ok (.if_icmp .eq 17, 3) := by decide +kernel
theorem dX3_eat_65 : decode cX3_eat 65 = .ok (.aload_n 0, 1) := by decide +kernel
theorem dX3_eat_66 : decode cX3_eat 66 = .ok (.aload_n 0, 1) := by decide +kernel
theorem dX3_eat_67 : decode cX3_eat 67 = .ok (.getfield 7, 3) := by decide +kernel
theorem dX3_eat_70 : decode cX3_eat 70 = .ok (.sipush 178, 3) := by decide +kernel
theorem dX3_eat_73 : decode cX3_eat 73 = .ok (.iload_n 3, 1) := by decide +kernel
theorem dX3_eat_74 : decode cX3_eat 74 = .ok (.iadd, 1) := by decide +kernel
theorem dX3_eat_75 : decode cX3_eat 75 = .ok (.iaload, 1) := by decide +kernel
theorem dX3_eat_76 : decode cX3_eat 76 = .ok (.invokevirtual 118, 3) := by decide +kernel
theorem dX3_eat_79 : decode cX3_eat 79 = .ok (.aload_n 0, 1) := by decide +kernel
theorem dX3_eat_80 : decode cX3_eat 80 = .ok (.getfield 7, 3) := by decide +kernel
theorem dX3_eat_83 : decode cX3_eat 83 = .ok (.sipush 166, 3) := by decide +kernel
theorem dX3_eat_86 : decode cX3_eat 86 = .ok (.iload_n 3, 1) := by decide +kernel
theorem dX3_eat_87 : decode cX3_eat 87 = .ok (.iadd, 1) := by decide +kernel
theorem dX3_eat_88 : decode cX3_eat 88 = .ok (.iconst 2, 1) := by decide +kernel
theorem dX3_eat_89 : decode cX3_eat 89 = .ok (.iastore, 1) := by decide +kernel
theorem dX3_eat_90 : decode cX3_eat 90 = .ok (.aload_n 0, 1) := by decide +kernel
theorem dX3_eat_91 : decode cX3_eat 91 = .ok (.getfield 7, 3) := by decide +kernel
theorem dX3_eat_94 : decode cX3_eat 94 = .ok (.sipush 178, 3) := by decide +kernel
theorem dX3_eat_97 : decode cX3_eat 97 = .ok (.iload_n 3, 1) := by decide +kernel
theorem dX3_eat_98 : decode cX3_eat 98 = .ok (.iadd, 1) := by decide +kernel
theorem dX3_eat_99 : decode cX3_eat 99 = .ok (.iconst (-1), 1) := by decide +kernel
theorem dX3_eat_100 : decode cX3_eat 100 = .ok (.iastore, 1) := by decide +kernel
theorem dX3_eat_101 : decode cX3_eat 101 = .ok (.aload_n 0, 1) := by decide +kernel
theorem dX3_eat_102 : decode cX3_eat 102 = .ok (.getfield 7, 3) := by decide +kernel
theorem dX3_eat_105 : decode cX3_eat 105 = .ok (.sipush 190, 3) := by decide +kernel
theorem dX3_eat_108 : decode cX3_eat 108 = .ok (.iload_n 3, 1) := by decide +kernel
theorem dX3_eat_109 : decode cX3_eat 109 = .ok (.iadd, 1) := by decide +kernel
theorem dX3_eat_110 : decode cX3_eat 110 = .ok (.iconst 0, 1) := by decide +kernel
theorem dX3_eat_111 : decode cX3_eat 111 = .ok (.iastore, 1) := by decide +kernel
theorem dX3_eat_112 : decode cX3_eat 112 = .ok (.iinc 2 1, 3) := by decide +kernel
theorem dX3_eat_115 : decode cX3_eat 115 = .ok (.iinc 3 1, 3) := by decide +kernel
theorem dX3_eat_118 : decode cX3_eat 118 = .ok (.goto (-105), 3) := by decide +kernel
theorem dX3_eat_121 : decode cX3_eat 121 = .ok (.iload_n 2, 1) := by decide +kernel
theorem dX3_eat_122 : decode cX3_eat 122 = .ok (.ireturn, 1) := by decide +kernel
abbrev cX3_lies : ByteArray := prog_22_method_23_code
def yX3_lies : MethodName := ⟨RX3, "lies", "(I)V"⟩
theorem dX3_lies_0 : decode cX3_lies 0 = .ok (.aload_n 0, 1) := by decide +kernel
theorem dX3_lies_1 : decode cX3_lies 1 = .ok (.getfield 7, 3) := by decide +kernel
theorem dX3_lies_4 : decode cX3_lies 4 = .ok (.bipush 90, 2) := by decide +kernel
theorem dX3_lies_6 : decode cX3_lies 6 = .ok (.iload_n 1, 1) := by decide +kernel
theorem dX3_lies_7 : decode cX3_lies 7 = .ok (.iadd, 1) := by decide +kernel
theorem dX3_lies_8 : decode cX3_lies 8 = .ok (.iconst 0, 1) := by decide +kernel
theorem dX3_lies_9 : decode cX3_lies 9 = .ok (.iastore, 1) := by decide +kernel
theorem dX3_lies_10 : decode cX3_lies 10 = .ok (.aload_n 0, 1) := by decide +kernel
theorem dX3_lies_11 : decode cX3_lies 11 = .ok (.getfield 7, 3) := by decide +kernel
theorem dX3_lies_14 : decode cX3_lies 14 = .ok (.bipush 110, 2) := by decide +kernel
theorem dX3_lies_16 : decode cX3_lies 16 = .ok (.iload_n 1, 1) := by decide +kernel
theorem dX3_lies_17 : decode cX3_lies 17 = .ok (.iadd, 1) := by decide +kernel
theorem dX3_lies_18 : decode cX3_lies 18 = .ok (.iconst (-1), 1) := by decide +kernel
theorem dX3_lies_19 : decode cX3_lies 19 = .ok (.iastore, 1) := by decide +kernel
theorem dX3_lies_20 : decode cX3_lies 20 = .ok (.return_, 1) := by decide +kernel
abbrev cX3_feed : ByteArray := prog_22_method_26_code
def yX3_feed : MethodName := ⟨RX3, "feed", "(JI)I"⟩
theorem dX3_feed_0 : decode cX3_feed 0 = .ok (.iload_n 3, 1) := by decide +kernel
theorem dX3_feed_1 : decode cX3_feed 1 = .ok (.iconst 1, 1) := by decide +kernel
theorem dX3_feed_2 : decode cX3_feed 2 = .ok (.bipush 8, 2) := by decide +kernel
theorem dX3_feed_4 : decode cX3_feed 4 = .ok (.invokestatic 69, 3) := by decide +kernel
theorem dX3_feed_7 : decode cX3_feed 7 = .ok (.ifCond .ne 6, 3) := by decide +kernel
theorem dX3_feed_10 : decode cX3_feed 10 = .ok (.bipush (-2), 2) := by decide +kernel
theorem dX3_feed_12 : decode cX3_feed 12 = .ok (.ireturn, 1) := by decide +kernel
theorem dX3_feed_13 : decode cX3_feed 13 = .ok (.aload_n 0, 1) := by decide +kernel
theorem dX3_feed_14 : decode cX3_feed 14 = .ok (.getfield 122, 3) := by decide +kernel
theorem dX3_feed_17 : decode cX3_feed 17 = .ok (.iload_n 3, 1) := by decide +kernel
theorem dX3_feed_18 : decode cX3_feed 18 = .ok (.iadd, 1) := by decide +kernel
theorem dX3_feed_19 : decode cX3_feed 19 = .ok (.bipush 120, 2) := by decide +kernel
theorem dX3_feed_21 : decode cX3_feed 21 = .ok (.if_icmp .le 6, 3) := by decide +kernel
theorem dX3_feed_24 : decode cX3_feed 24 = .ok (.bipush (-4), 2) := by decide +kernel
theorem dX3_feed_26 : decode cX3_feed 26 = .ok (.ireturn, 1) := by decide +kernel
theorem dX3_feed_27 : decode cX3_feed 27 = .ok (.iload_n 3, 1) := by decide +kernel
theorem dX3_feed_28 : decode cX3_feed 28 = .ok (.iconst 1, 1) := by decide +kernel
theorem dX3_feed_29 : decode cX3_feed 29 = .ok (.isub, 1) := by decide +kernel
theorem dX3_feed_30 : decode cX3_feed 30 = .ok (.istore 4, 2) := by decide +kernel
theorem dX3_feed_32 : decode cX3_feed 32 = .ok (.iload 4, 2) := by decide +kernel
theorem dX3_feed_34 : decode cX3_feed 34 = .ok (.ifCond .lt 40, 3) := by decide +kernel
theorem dX3_feed_37 : decode cX3_feed 37 = .ok (.aload_n 0, 1) := by decide +kernel
theorem dX3_feed_38 : decode cX3_feed 38 = .ok (.getfield 19, 3) := by decide +kernel
theorem dX3_feed_41 : decode cX3_feed 41 = .ok (.aload_n 0, 1) := by decide +kernel
theorem dX3_feed_42 : decode cX3_feed 42 = .ok (.getfield 122, 3) := by decide +kernel
theorem dX3_feed_45 : decode cX3_feed 45 = .ok (.lload_n 1, 1) := by decide +kernel
theorem dX3_feed_46 : decode cX3_feed 46 = .ok (.bipush 8, 2) := by decide +kernel
theorem dX3_feed_48 : decode cX3_feed 48 = .ok (.iload 4, 2) := by decide +kernel
theorem dX3_feed_50 : decode cX3_feed 50 = .ok (.imul, 1) := by decide +kernel
theorem dX3_feed_51 : decode cX3_feed 51 = .ok (.lshr, 1) := by decide +kernel
theorem dX3_feed_52 : decode cX3_feed 52 = .ok (.ldc2_w 125, 3) := by decide +kernel
theorem dX3_feed_55 : decode cX3_feed 55 = .ok (.land, 1) := by decide +kernel
theorem dX3_feed_56 : decode cX3_feed 56 = .ok (.l2i, 1) := by decide +kernel
theorem dX3_feed_57 : decode cX3_feed 57 = .ok (.iastore, 1) := by decide +kernel
theorem dX3_feed_58 : decode cX3_feed 58 = .ok (.aload_n 0, 1) := by decide +kernel
theorem dX3_feed_59 : decode cX3_feed 59 = .ok (.dup, 1) := by decide +kernel
theorem dX3_feed_60 : decode cX3_feed 60 = .ok (.getfield 122, 3) := by decide +kernel
theorem dX3_feed_63 : decode cX3_feed 63 = .ok (.iconst 1, 1) := by decide +kernel
theorem dX3_feed_64 : decode cX3_feed 64 = .ok (.iadd, 1) := by decide +kernel
theorem dX3_feed_65 : decode cX3_feed 65 = .ok (.putfield 122, 3) := by decide +kernel
theorem dX3_feed_68 : decode cX3_feed 68 = .ok (.iinc 4 (-1), 3) := by decide +kernel
theorem dX3_feed_71 : decode cX3_feed 71 = .ok (.goto (-39), 3) := by decide +kernel
theorem dX3_feed_74 : decode cX3_feed 74 = .ok (.aload_n 0, 1) := by decide +kernel
theorem dX3_feed_75 : decode cX3_feed 75 = .ok (.getfield 122, 3) := by decide +kernel
theorem dX3_feed_78 : decode cX3_feed 78 = .ok (.ireturn, 1) := by decide +kernel
abbrev cX3_text : ByteArray := prog_22_method_40_code
def yX3_text : MethodName := ⟨RX3, "text", "()I"⟩
theorem dX3_text_0 : decode cX3_text 0 = .ok (.aload_n 0, 1) := by decide +kernel
theorem dX3_text_1 : decode cX3_text 1 = .ok (.getfield 73, 3) := by decide +kernel
theorem dX3_text_4 : decode cX3_text 4 = .ok (.bipush 8, 2) := by decide +kernel
theorem dX3_text_6 : decode cX3_text 6 = .ok (.if_icmp .ne 6, 3) := by decide +kernel
theorem dX3_text_9 : decode cX3_text 9 = .ok (.bipush (-4), 2) := by decide +kernel
theorem dX3_text_11 : decode cX3_text 11 = .ok (.ireturn, 1) := by decide +kernel
theorem dX3_text_12 : decode cX3_text 12 = .ok (.aload_n 0, 1) := by decide +kernel
theorem dX3_text_13 : decode cX3_text 13 = .ok (.getfield 25, 3) := by decide +kernel
theorem dX3_text_16 : decode cX3_text 16 = .ok (.aload_n 0, 1) := by decide +kernel
theorem dX3_text_17 : decode cX3_text 17 = .ok (.getfield 73, 3) := by decide +kernel
theorem dX3_text_20 : decode cX3_text 20 = .ok (.aload_n 0, 1) := by decide +kernel
theorem dX3_text_21 : decode cX3_text 21 = .ok (.getfield 122, 3) := by decide +kernel
theorem dX3_text_24 : decode cX3_text 24 = .ok (.iastore, 1) := by decide +kernel
theorem dX3_text_25 : decode cX3_text 25 = .ok (.iconst 0, 1) := by decide +kernel
theorem dX3_text_26 : decode cX3_text 26 = .ok (.istore_n 1, 1) := by decide +kernel
theorem dX3_text_27 : decode cX3_text 27 = .ok (.iload_n 1, 1) := by decide +kernel
theorem dX3_text_28 : decode cX3_text 28 = .ok (.aload_n 0, 1) := by decide +kernel
theorem dX3_text_29 : decode cX3_text 29 = .ok (.getfield 122, 3) := by decide +kernel
theorem dX3_text_32 : decode cX3_text 32 = .ok (.if_icmp .ge 29, 3) := by decide +kernel
theorem dX3_text_35 : decode cX3_text 35 = .ok (.aload_n 0, 1) := by decide +kernel
theorem dX3_text_36 : decode cX3_text 36 = .ok (.getfield 22, 3) := by decide +kernel
theorem dX3_text_39 : decode cX3_text 39 = .ok (.bipush 120, 2) := by decide +kernel
theorem dX3_text_41 : decode cX3_text 41 = .ok (.aload_n 0, 1) := by decide +kernel
theorem dX3_text_42 : decode cX3_text 42 = .ok (.getfield 73, 3) := by decide +kernel
theorem dX3_text_45 : decode cX3_text 45 = .ok (.imul, 1) := by decide +kernel
theorem dX3_text_46 : decode cX3_text 46 = .ok (.iload_n 1, 1) := by decide +kernel
theorem dX3_text_47 : decode cX3_text 47 = .ok (.iadd, 1) := by decide +kernel
theorem dX3_text_48 : decode cX3_text 48 = .ok (.aload_n 0, 1) := by decide +kernel
theorem dX3_text_49 : decode cX3_text 49 = .ok (.getfield 19, 3) := by decide +kernel
theorem dX3_text_52 : decode cX3_text 52 = .ok (.iload_n 1, 1) := by decide +kernel
theorem dX3_text_53 : decode cX3_text 53 = .ok (.iaload, 1) := by decide +kernel
theorem dX3_text_54 : decode cX3_text 54 = .ok (.iastore, 1) := by decide +kernel
theorem dX3_text_55 : decode cX3_text 55 = .ok (.iinc 1 1, 3) := by decide +kernel
theorem dX3_text_58 : decode cX3_text 58 = .ok (.goto (-31), 3) := by decide +kernel
theorem dX3_text_61 : decode cX3_text 61 = .ok (.aload_n 0, 1) := by decide +kernel
theorem dX3_text_62 : decode cX3_text 62 = .ok (.iconst 0, 1) := by decide +kernel
theorem dX3_text_63 : decode cX3_text 63 = .ok (.putfield 122, 3) := by decide +kernel
theorem dX3_text_66 : decode cX3_text 66 = .ok (.aload_n 0, 1) := by decide +kernel
theorem dX3_text_67 : decode cX3_text 67 = .ok (.aload_n 0, 1) := by decide +kernel
theorem dX3_text_68 : decode cX3_text 68 = .ok (.getfield 73, 3) := by decide +kernel
theorem dX3_text_71 : decode cX3_text 71 = .ok (.invokevirtual 195, 3) := by decide +kernel
theorem dX3_text_74 : decode cX3_text 74 = .ok (.aload_n 0, 1) := by decide +kernel
theorem dX3_text_75 : decode cX3_text 75 = .ok (.getfield 133, 3) := by decide +kernel
theorem dX3_text_78 : decode cX3_text 78 = .ok (.ifCond .eq 11, 3) := by decide +kernel
theorem dX3_text_81 : decode cX3_text 81 = .ok (.bipush (-10), 2) := by decide +kernel
theorem dX3_text_83 : decode cX3_text 83 = .ok (.aload_n 0, 1) := by decide +kernel
theorem dX3_text_84 : decode cX3_text 84 = .ok (.getfield 127, 3) := by decide +kernel
theorem dX3_text_87 : decode cX3_text 87 = .ok (.isub, 1) := by decide +kernel
theorem dX3_text_88 : decode cX3_text 88 = .ok (.ireturn, 1) := by decide +kernel
theorem dX3_text_89 : decode cX3_text 89 = .ok (.aload_n 0, 1) := by decide +kernel
theorem dX3_text_90 : decode cX3_text 90 = .ok (.dup, 1) := by decide +kernel
theorem dX3_text_91 : decode cX3_text 91 = .ok (.getfield 73, 3) := by decide +kernel
theorem dX3_text_94 : decode cX3_text 94 = .ok (.iconst 1, 1) := by decide +kernel
theorem dX3_text_95 : decode cX3_text 95 = .ok (.iadd, 1) := by decide +kernel
theorem dX3_text_96 : decode cX3_text 96 = .ok (.putfield 73, 3) := by decide +kernel
theorem dX3_text_99 : decode cX3_text 99 = .ok (.aload_n 0, 1) := by decide +kernel
theorem dX3_text_100 : decode cX3_text 100 = .ok (.getfield 73, 3) := by decide +kernel
theorem dX3_text_103 : decode cX3_text 103 = .ok (.iconst 1, 1) := by decide +kernel
theorem dX3_text_104 : decode cX3_text 104 = .ok (.isub, 1) := by decide +kernel
theorem dX3_text_105 : decode cX3_text 105 = .ok (.ireturn, 1) := by decide +kernel
abbrev cX3_readsIn : ByteArray := prog_22_method_37_code
def yX3_readsIn : MethodName := ⟨RX3, "readsIn", "(I)V"⟩
theorem dX3_readsIn_0 : decode cX3_readsIn 0 = .ok (.aload_n 0, 1) := by decide +kernel
theorem dX3_readsIn_1 : decode cX3_readsIn 1 = .ok (.iload_n 1, 1) := by decide +kernel
theorem dX3_readsIn_2 : decode cX3_readsIn 2 = .ok (.putfield 130, 3) := by decide +kernel
theorem dX3_readsIn_5 : decode cX3_readsIn 5 = .ok (.aload_n 0, 1) := by decide +kernel
theorem dX3_readsIn_6 : decode cX3_readsIn 6 = .ok (.iconst 0, 1) := by decide +kernel
theorem dX3_readsIn_7 : decode cX3_readsIn 7 = .ok (.putfield 127, 3) := by decide +kernel
theorem dX3_readsIn_10 : decode cX3_readsIn 10 = .ok (.aload_n 0, 1) := by decide +kernel
theorem dX3_readsIn_11 : decode cX3_readsIn 11 = .ok (.iconst 0, 1) := by decide +kernel
theorem dX3_readsIn_12 : decode cX3_readsIn 12 = .ok (.putfield 133, 3) := by decide +kernel
theorem dX3_readsIn_15 : decode cX3_readsIn 15 = .ok (.aload_n 0, 1) := by decide +kernel
theorem dX3_readsIn_16 : decode cX3_readsIn 16 = .ok (.iconst 0, 1) := by decide +kernel
theorem dX3_readsIn_17 : decode cX3_readsIn 17 = .ok (.putfield 153, 3) := by decide +kernel
theorem dX3_readsIn_20 : decode cX3_readsIn 20 = .ok (.aload_n 0, 1) := by decide +kernel
theorem dX3_readsIn_21 : decode cX3_readsIn 21 = .ok (.getfield 37, 3) := by decide +kernel
theorem dX3_readsIn_24 : decode cX3_readsIn 24 = .ok (.iload_n 1, 1) := by decide +kernel
theorem dX3_readsIn_25 : decode cX3_readsIn 25 = .ok (.iconst 0, 1) := by decide +kernel
theorem dX3_readsIn_26 : decode cX3_readsIn 26 = .ok (.iastore, 1) := by decide +kernel
theorem dX3_readsIn_27 : decode cX3_readsIn 27 = .ok (.iconst 0, 1) := by decide +kernel
theorem dX3_readsIn_28 : decode cX3_readsIn 28 = .ok (.istore_n 2, 1) := by decide +kernel
theorem dX3_readsIn_29 : decode cX3_readsIn 29 = .ok (.iconst 1, 1) := by decide +kernel
theorem dX3_readsIn_30 : decode cX3_readsIn 30 = .ok (.istore_n 3, 1) := by decide +kernel
theorem dX3_readsIn_31 : decode cX3_readsIn 31 = .ok (.iload_n 3, 1) := by decide +kernel
theorem dX3_readsIn_32 : decode cX3_readsIn 32 = .ok (.ifCond .eq 86, 3) := by decide +kernel
theorem dX3_readsIn_35 : decode cX3_readsIn 35 = .ok (.aload_n 0, 1) := by decide +kernel
theorem dX3_readsIn_36 : decode cX3_readsIn 36 = .ok (.invokevirtual 186, 3) := by decide +kernel
theorem dX3_readsIn_39 : decode cX3_readsIn 39 = .ok (.istore 4, 2) := by decide +kernel
theorem dX3_readsIn_41 : decode cX3_readsIn 41 = .ok (.aload_n 0, 1) := by decide +kernel
theorem dX3_readsIn_42 : decode cX3_readsIn 42 = .ok (.invokevirtual 162, 3) := by decide +kernel
theorem dX3_readsIn_45 : decode cX3_readsIn 45 = .ok (.aload_n 0, 1) := by decide +kernel
theorem dX3_readsIn_46 : decode cX3_readsIn 46 = .ok (.bipush (-10), 2) := by decide +kernel
theorem dX3_readsIn_48 : decode cX3_readsIn 48 = .ok (.iload 4, 2) := by decide +kernel
theorem dX3_readsIn_50 : decode cX3_readsIn 50 = .ok (.isub, 1) := by decide +kernel
theorem dX3_readsIn_51 : decode cX3_readsIn 51 = .ok (.invokevirtual 159, 3) := by decide +kernel
theorem dX3_readsIn_54 : decode cX3_readsIn 54 = .ok (.iload_n 2, 1) := by decide +kernel
theorem dX3_readsIn_55 : decode cX3_readsIn 55 = .ok (.aload_n 0, 1) := by decide +kernel
theorem dX3_readsIn_56 : decode cX3_readsIn 56 = .ok (.getfield 133, 3) := by decide +kernel
theorem dX3_readsIn_59 : decode cX3_readsIn 59 = .ok (.ifCond .eq 7, 3) := by decide +kernel
theorem dX3_readsIn_62 : decode cX3_readsIn 62 = .ok (.iconst 0, 1) := by decide +kernel
theorem dX3_readsIn_63 : decode cX3_readsIn 63 = .ok (.goto 4, 3) := by decide +kernel
theorem dX3_readsIn_66 : decode cX3_readsIn 66 = .ok (.iconst 1, 1) := by decide +kernel
theorem dX3_readsIn_67 : decode cX3_readsIn 67 = .ok (.iadd, 1) := by decide +kernel
theorem dX3_readsIn_68 : decode cX3_readsIn 68 = .ok (.istore_n 2, 1) := by decide +kernel
theorem dX3_readsIn_69 : decode cX3_readsIn 69 = .ok (.aload_n 0, 1) := by decide +kernel
theorem dX3_readsIn_70 : decode cX3_readsIn 70 = .ok (.getfield 133, 3) := by decide +kernel
theorem dX3_readsIn_73 : decode cX3_readsIn 73 = .ok (.ifCond .ne 22, 3) := by decide +kernel
theorem dX3_readsIn_76 : decode cX3_readsIn 76 = .ok (.iload_n 2, 1) := by decide +kernel
theorem dX3_readsIn_77 : decode cX3_readsIn 77 = .ok (.bipush 8, 2) := by decide +kernel
theorem dX3_readsIn_79 : decode cX3_readsIn 79 = .ok (.if_icmp .ge 16, 3) := by decide +kernel
theorem dX3_readsIn_82 : decode cX3_readsIn 82 = .ok (.aload_n 0, 1) := by decide +kernel
theorem dX3_readsIn_83 : decode cX3_readsIn 83 = .ok (.invokevirtual 137, 3) := by decide +kernel
theorem dX3_readsIn_86 : decode cX3_readsIn 86 = .ok (.bipush 59, 2) := by decide +kernel
theorem dX3_readsIn_88 : decode cX3_readsIn 88 = .ok (.if_icmp .ne 7, 3) := by decide +kernel
theorem dX3_readsIn_91 : decode cX3_readsIn 91 = .ok (.iconst 1, 1) := by decide +kernel
theorem dX3_readsIn_92 : decode cX3_readsIn 92 = .ok (.goto 4, 3) := by decide +kernel
theorem dX3_readsIn_95 : decode cX3_readsIn 95 = .ok (.iconst 0, 1) := by decide +kernel
theorem dX3_readsIn_96 : decode cX3_readsIn 96 = .ok (.istore_n 3, 1) := by decide +kernel
theorem dX3_readsIn_97 : decode cX3_readsIn 97 = .ok (.aload_n 0, 1) := by decide +kernel
theorem dX3_readsIn_98 : decode cX3_readsIn 98 = .ok (.dup, 1) := by decide +kernel
theorem dX3_readsIn_99 : decode cX3_readsIn 99 = .ok (.getfield 127, 3) := by decide +kernel
theorem dX3_readsIn_102 : decode cX3_readsIn 102 = .ok (.iload_n 3, 1) := by decide +kernel
theorem dX3_readsIn_103 : decode cX3_readsIn 103 = .ok (.ifCond .eq 7, 3) := by decide +kernel
theorem dX3_readsIn_106 : decode cX3_readsIn 106 = .ok (.iconst 1, 1) := by decide +kernel
theorem dX3_readsIn_107 : decode cX3_readsIn 107 = .ok (.goto 4, 3) := by decide +kernel
theorem dX3_readsIn_110 : decode cX3_readsIn 110 = .ok (.iconst 0, 1) := by decide +kernel
theorem dX3_readsIn_111 : decode cX3_readsIn 111 = .ok (.iadd, 1) := by decide +kernel
theorem dX3_readsIn_112 : decode cX3_readsIn 112 = .ok (.putfield 127, 3) := by decide +kernel
theorem dX3_readsIn_115 : decode cX3_readsIn 115 = .ok (.goto (-84), 3) := by decide +kernel
theorem dX3_readsIn_118 : decode cX3_readsIn 118 = .ok (.aload_n 0, 1) := by decide +kernel
theorem dX3_readsIn_119 : decode cX3_readsIn 119 = .ok (.aload_n 0, 1) := by decide +kernel
theorem dX3_readsIn_120 : decode cX3_readsIn 120 = .ok (.getfield 133, 3) := by decide +kernel
theorem dX3_readsIn_123 : decode cX3_readsIn 123 = .ok (.ifCond .ne 16, 3) := by decide +kernel
theorem dX3_readsIn_126 : decode cX3_readsIn 126 = .ok (.aload_n 0, 1) := by decide +kernel
theorem dX3_readsIn_127 : decode cX3_readsIn 127 = .ok (.getfield 127, 3) := by decide +kernel
theorem dX3_readsIn_130 : decode cX3_readsIn 130 = .ok (.aload_n 0, 1) := by decide +kernel
theorem dX3_readsIn_131 : decode cX3_readsIn 131 = .ok (.getfield 25, 3) := by decide +kernel
theorem dX3_readsIn_134 : decode cX3_readsIn 134 = .ok (.iload_n 1, 1) := by decide +kernel
theorem dX3_readsIn_135 : decode cX3_readsIn 135 = .ok (.iaload, 1) := by decide +kernel
theorem dX3_readsIn_136 : decode cX3_readsIn 136 = .ok (.if_icmp .eq 7, 3) := by decide +kernel
theorem dX3_readsIn_139 : decode cX3_readsIn 139 = .ok (.iconst 1, 1) := by decide +kernel
theorem dX3_readsIn_140 : decode cX3_readsIn 140 = .ok (.goto 4, 3) := by decide +kernel
theorem dX3_readsIn_143 : decode cX3_readsIn 143 = .ok (.iconst 0, 1) := by decide +kernel
theorem dX3_readsIn_144 : decode cX3_readsIn 144 = .ok (.putfield 133, 3) := by decide +kernel
theorem dX3_readsIn_147 : decode cX3_readsIn 147 = .ok (.return_, 1) := by decide +kernel
abbrev cX3_word : ByteArray := prog_22_method_36_code
def yX3_word : MethodName := ⟨RX3, "word", "()I"⟩
theorem dX3_word_0 : decode cX3_word 0 = .ok (.aload_n 0, 1) := by decide +kernel
theorem dX3_word_1 : decode cX3_word 1 = .ok (.invokevirtual 137, 3) := by decide +kernel
theorem dX3_word_4 : decode cX3_word 4 = .ok (.lookupswitch 76 #[(103, 60), (107, 52), (116, 44), (119, 68)], 44) := by decide +kernel
theorem dX3_word_48 : decode cX3_word 48 = .ok (.aload_n 0, 1) := by decide +kernel
theorem dX3_word_49 : decode cX3_word 49 = .ok (.ldc 174, 2) := by decide +kernel
theorem dX3_word_51 : decode cX3_word 51 = .ok (.invokevirtual 176, 3) := by decide +kernel
theorem dX3_word_54 : decode cX3_word 54 = .ok (.iconst 0, 1) := by decide +kernel
theorem dX3_word_55 : decode cX3_word 55 = .ok (.ireturn, 1) := by decide +kernel
theorem dX3_word_56 : decode cX3_word 56 = .ok (.aload_n 0, 1) := by decide +kernel
theorem dX3_word_57 : decode cX3_word 57 = .ok (.ldc 180, 2) := by decide +kernel
theorem dX3_word_59 : decode cX3_word 59 = .ok (.invokevirtual 176, 3) := by decide +kernel
theorem dX3_word_62 : decode cX3_word 62 = .ok (.iconst 1, 1) := by decide +kernel
theorem dX3_word_63 : decode cX3_word 63 = .ok (.ireturn, 1) := by decide +kernel
theorem dX3_word_64 : decode cX3_word 64 = .ok (.aload_n 0, 1) := by decide +kernel
theorem dX3_word_65 : decode cX3_word 65 = .ok (.ldc 182, 2) := by decide +kernel
theorem dX3_word_67 : decode cX3_word 67 = .ok (.invokevirtual 176, 3) := by decide +kernel
theorem dX3_word_70 : decode cX3_word 70 = .ok (.iconst 2, 1) := by decide +kernel
theorem dX3_word_71 : decode cX3_word 71 = .ok (.ireturn, 1) := by decide +kernel
theorem dX3_word_72 : decode cX3_word 72 = .ok (.aload_n 0, 1) := by decide +kernel
theorem dX3_word_73 : decode cX3_word 73 = .ok (.ldc 184, 2) := by decide +kernel
theorem dX3_word_75 : decode cX3_word 75 = .ok (.invokevirtual 176, 3) := by decide +kernel
theorem dX3_word_78 : decode cX3_word 78 = .ok (.iconst 3, 1) := by decide +kernel
theorem dX3_word_79 : decode cX3_word 79 = .ok (.ireturn, 1) := by decide +kernel
theorem dX3_word_80 : decode cX3_word 80 = .ok (.aload_n 0, 1) := by decide +kernel
theorem dX3_word_81 : decode cX3_word 81 = .ok (.iconst 1, 1) := by decide +kernel
theorem dX3_word_82 : decode cX3_word 82 = .ok (.putfield 133, 3) := by decide +kernel
theorem dX3_word_85 : decode cX3_word 85 = .ok (.iconst (-1), 1) := by decide +kernel
theorem dX3_word_86 : decode cX3_word 86 = .ok (.ireturn, 1) := by decide +kernel
abbrev cX3_here : ByteArray := prog_22_method_27_code
def yX3_here : MethodName := ⟨RX3, "here", "()I"⟩
theorem dX3_here_0 : decode cX3_here 0 = .ok (.aload_n 0, 1) := by decide +kernel
theorem dX3_here_1 : decode cX3_here 1 = .ok (.getfield 127, 3) := by decide +kernel
theorem dX3_here_4 : decode cX3_here 4 = .ok (.aload_n 0, 1) := by decide +kernel
theorem dX3_here_5 : decode cX3_here 5 = .ok (.getfield 25, 3) := by decide +kernel
theorem dX3_here_8 : decode cX3_here 8 = .ok (.aload_n 0, 1) := by decide +kernel
theorem dX3_here_9 : decode cX3_here 9 = .ok (.getfield 130, 3) := by decide +kernel
theorem dX3_here_12 : decode cX3_here 12 = .ok (.iaload, 1) := by decide +kernel
theorem dX3_here_13 : decode cX3_here 13 = .ok (.if_icmp .ge 23, 3) := by decide +kernel
theorem dX3_here_16 : decode cX3_here 16 = .ok (.aload_n 0, 1) := by decide +kernel
theorem dX3_here_17 : decode cX3_here 17 = .ok (.getfield 22, 3) := by decide +kernel
theorem dX3_here_20 : decode cX3_here 20 = .ok (.bipush 120, 2) := by decide +kernel
theorem dX3_here_22 : decode cX3_here 22 = .ok (.aload_n 0, 1) := by decide +kernel
theorem dX3_here_23 : decode cX3_here 23 = .ok (.getfield 130, 3) := by decide +kernel
theorem dX3_here_26 : decode cX3_here 26 = .ok (.imul, 1) := by decide +kernel
theorem dX3_here_27 : decode cX3_here 27 = .ok (.aload_n 0, 1) := by decide +kernel
theorem dX3_here_28 : decode cX3_here 28 = .ok (.getfield 127, 3) := by decide +kernel
theorem dX3_here_31 : decode cX3_here 31 = .ok (.iadd, 1) := by decide +kernel
theorem dX3_here_32 : decode cX3_here 32 = .ok (.iaload, 1) := by decide +kernel
theorem dX3_here_33 : decode cX3_here 33 = .ok (.goto 4, 3) := by decide +kernel
theorem dX3_here_36 : decode cX3_here 36 = .ok (.iconst (-1), 1) := by decide +kernel
theorem dX3_here_37 : decode cX3_here 37 = .ok (.ireturn, 1) := by decide +kernel
abbrev cX3_spells : ByteArray := prog_22_method_29_code
def yX3_spells : MethodName := ⟨RX3, "spells", "(Ljava/lang/String;)V"⟩
theorem dX3_spells_0 : decode cX3_spells 0 = .ok (.iconst 0, 1) := by decide +kernel
theorem dX3_spells_1 : decode cX3_spells 1 = .ok (.istore_n 2, 1) := by decide +kernel
theorem dX3_spells_2 : decode cX3_spells 2 = .ok (.iload_n 2, 1) := by decide +kernel
theorem dX3_spells_3 : decode cX3_spells 3 = .ok (.aload_n 1, 1) := by decide +kernel
theorem dX3_spells_4 : decode cX3_spells 4 = .ok (.invokevirtual 141, 3) := by decide +kernel
theorem dX3_spells_7 : decode cX3_spells 7 = .ok (.if_icmp .ge 18, 3) := by decide +kernel
theorem dX3_spells_10 : decode cX3_spells 10 = .ok (.aload_n 0, 1) := by decide +kernel
theorem dX3_spells_11 : decode cX3_spells 11 = .ok (.aload_n 1, 1) := by decide +kernel
theorem dX3_spells_12 : decode cX3_spells 12 = .ok (.iload_n 2, 1) := by decide +kernel
theorem dX3_spells_13 : decode cX3_spells 13 = .ok (.invokevirtual 146, 3) := by decide +kernel
theorem dX3_spells_16 : decode cX3_spells 16 = .ok (.invokevirtual 150, 3) := by decide +kernel
theorem dX3_spells_19 : decode cX3_spells 19 = .ok (.iinc 2 1, 3) := by decide +kernel
theorem dX3_spells_22 : decode cX3_spells 22 = .ok (.goto (-20), 3) := by decide +kernel
theorem dX3_spells_25 : decode cX3_spells 25 = .ok (.return_, 1) := by decide +kernel
abbrev cX3_must : ByteArray := prog_22_method_28_code
def yX3_must : MethodName := ⟨RX3, "must", "(I)V"⟩
theorem dX3_must_0 : decode cX3_must 0 = .ok (.aload_n 0, 1) := by decide +kernel
theorem dX3_must_1 : decode cX3_must 1 = .ok (.aload_n 0, 1) := by decide +kernel
theorem dX3_must_2 : decode cX3_must 2 = .ok (.getfield 133, 3) := by decide +kernel
theorem dX3_must_5 : decode cX3_must 5 = .ok (.ifCond .ne 11, 3) := by decide +kernel
theorem dX3_must_8 : decode cX3_must 8 = .ok (.aload_n 0, 1) := by decide +kernel
theorem dX3_must_9 : decode cX3_must 9 = .ok (.invokevirtual 137, 3) := by decide +kernel
theorem dX3_must_12 : decode cX3_must 12 = .ok (.iload_n 1, 1) := by decide +kernel
theorem dX3_must_13 : decode cX3_must 13 = .ok (.if_icmp .eq 7, 3) := by decide +kernel
theorem dX3_must_16 : decode cX3_must 16 = .ok (.iconst 1, 1) := by decide +kernel
theorem dX3_must_17 : decode cX3_must 17 = .ok (.goto 4, 3) := by decide +kernel
theorem dX3_must_20 : decode cX3_must 20 = .ok (.iconst 0, 1) := by decide +kernel
theorem dX3_must_21 : decode cX3_must 21 = .ok (.putfield 133, 3) := by decide +kernel
theorem dX3_must_24 : decode cX3_must 24 = .ok (.aload_n 0, 1) := by decide +kernel
theorem dX3_must_25 : decode cX3_must 25 = .ok (.dup, 1) := by decide +kernel
theorem dX3_must_26 : decode cX3_must 26 = .ok (.getfield 127, 3) := by decide +kernel
theorem dX3_must_29 : decode cX3_must 29 = .ok (.aload_n 0, 1) := by decide +kernel
theorem dX3_must_30 : decode cX3_must 30 = .ok (.getfield 133, 3) := by decide +kernel
theorem dX3_must_33 : decode cX3_must 33 = .ok (.ifCond .eq 7, 3) := by decide +kernel
theorem dX3_must_36 : decode cX3_must 36 = .ok (.iconst 0, 1) := by decide +kernel
theorem dX3_must_37 : decode cX3_must 37 = .ok (.goto 4, 3) := by decide +kernel
theorem dX3_must_40 : decode cX3_must 40 = .ok (.iconst 1, 1) := by decide +kernel
theorem dX3_must_41 : decode cX3_must 41 = .ok (.iadd, 1) := by decide +kernel
theorem dX3_must_42 : decode cX3_must 42 = .ok (.putfield 127, 3) := by decide +kernel
theorem dX3_must_45 : decode cX3_must 45 = .ok (.return_, 1) := by decide +kernel
abbrev cX3_some : ByteArray := prog_22_method_35_code
def yX3_some : MethodName := ⟨RX3, "some", "()V"⟩
theorem dX3_some_0 : decode cX3_some 0 = .ok (.aload_n 0, 1) := by decide +kernel
theorem dX3_some_1 : decode cX3_some 1 = .ok (.invokevirtual 171, 3) := by decide +kernel
theorem dX3_some_4 : decode cX3_some 4 = .ok (.aload_n 0, 1) := by decide +kernel
theorem dX3_some_5 : decode cX3_some 5 = .ok (.getfield 133, 3) := by decide +kernel
theorem dX3_some_8 : decode cX3_some 8 = .ok (.ifCond .ne 35, 3) := by decide +kernel
theorem dX3_some_11 : decode cX3_some 11 = .ok (.aload_n 0, 1) := by decide +kernel
theorem dX3_some_12 : decode cX3_some 12 = .ok (.invokevirtual 137, 3) := by decide +kernel
theorem dX3_some_15 : decode cX3_some 15 = .ok (.bipush 124, 2) := by decide +kernel
theorem dX3_some_17 : decode cX3_some 17 = .ok (.if_icmp .ne 26, 3) := by decide +kernel
theorem dX3_some_20 : decode cX3_some 20 = .ok (.aload_n 0, 1) := by decide +kernel
theorem dX3_some_21 : decode cX3_some 21 = .ok (.dup, 1) := by decide +kernel
theorem dX3_some_22 : decode cX3_some 22 = .ok (.getfield 127, 3) := by decide +kernel
theorem dX3_some_25 : decode cX3_some 25 = .ok (.iconst 1, 1) := by decide +kernel
theorem dX3_some_26 : decode cX3_some 26 = .ok (.iadd, 1) := by decide +kernel
theorem dX3_some_27 : decode cX3_some 27 = .ok (.putfield 127, 3) := by decide +kernel
theorem dX3_some_30 : decode cX3_some 30 = .ok (.aload_n 0, 1) := by decide +kernel
theorem dX3_some_31 : decode cX3_some 31 = .ok (.invokevirtual 171, 3) := by decide +kernel
theorem dX3_some_34 : decode cX3_some 34 = .ok (.aload_n 0, 1) := by decide +kernel
theorem dX3_some_35 : decode cX3_some 35 = .ok (.bipush (-3), 2) := by decide +kernel
theorem dX3_some_37 : decode cX3_some 37 = .ok (.invokevirtual 159, 3) := by decide +kernel
theorem dX3_some_40 : decode cX3_some 40 = .ok (.goto (-36), 3) := by decide +kernel
theorem dX3_some_43 : decode cX3_some 43 = .ok (.return_, 1) := by decide +kernel
abbrev cX3_every : ByteArray := prog_22_method_34_code
def yX3_every : MethodName := ⟨RX3, "every", "()V"⟩
theorem dX3_every_0 : decode cX3_every 0 = .ok (.aload_n 0, 1) := by decide +kernel
theorem dX3_every_1 : decode cX3_every 1 = .ok (.invokevirtual 156, 3) := by decide +kernel
theorem dX3_every_4 : decode cX3_every 4 = .ok (.aload_n 0, 1) := by decide +kernel
theorem dX3_every_5 : decode cX3_every 5 = .ok (.getfield 133, 3) := by decide +kernel
theorem dX3_every_8 : decode cX3_every 8 = .ok (.ifCond .ne 35, 3) := by decide +kernel
theorem dX3_every_11 : decode cX3_every 11 = .ok (.aload_n 0, 1) := by decide +kernel
theorem dX3_every_12 : decode cX3_every 12 = .ok (.invokevirtual 137, 3) := by decide +kernel
theorem dX3_every_15 : decode cX3_every 15 = .ok (.bipush 38, 2) := by decide +kernel
theorem dX3_every_17 : decode cX3_every 17 = .ok (.if_icmp .ne 26, 3) := by decide +kernel
theorem dX3_every_20 : decode cX3_every 20 = .ok (.aload_n 0, 1) := by decide +kernel
theorem dX3_every_21 : decode cX3_every 21 = .ok (.dup, 1) := by decide +kernel
theorem dX3_every_22 : decode cX3_every 22 = .ok (.getfield 127, 3) := by decide +kernel
theorem dX3_every_25 : decode cX3_every 25 = .ok (.iconst 1, 1) := by decide +kernel
theorem dX3_every_26 : decode cX3_every 26 = .ok (.iadd, 1) := by decide +kernel
theorem dX3_every_27 : decode cX3_every 27 = .ok (.putfield 127, 3) := by decide +kernel
theorem dX3_every_30 : decode cX3_every 30 = .ok (.aload_n 0, 1) := by decide +kernel
theorem dX3_every_31 : decode cX3_every 31 = .ok (.invokevirtual 156, 3) := by decide +kernel
theorem dX3_every_34 : decode cX3_every 34 = .ok (.aload_n 0, 1) := by decide +kernel
theorem dX3_every_35 : decode cX3_every 35 = .ok (.bipush (-2), 2) := by decide +kernel
theorem dX3_every_37 : decode cX3_every 37 = .ok (.invokevirtual 159, 3) := by decide +kernel
theorem dX3_every_40 : decode cX3_every 40 = .ok (.goto (-36), 3) := by decide +kernel
theorem dX3_every_43 : decode cX3_every 43 = .ok (.return_, 1) := by decide +kernel
abbrev cX3_factor : ByteArray := prog_22_method_33_code
def yX3_factor : MethodName := ⟨RX3, "factor", "()V"⟩
theorem dX3_factor_0 : decode cX3_factor 0 = .ok (.aload_n 0, 1) := by decide +kernel
theorem dX3_factor_1 : decode cX3_factor 1 = .ok (.getfield 133, 3) := by decide +kernel
theorem dX3_factor_4 : decode cX3_factor 4 = .ok (.ifCond .eq 4, 3) := by decide +kernel
theorem dX3_factor_7 : decode cX3_factor 7 = .ok (.return_, 1) := by decide +kernel
theorem dX3_factor_8 : decode cX3_factor 8 = .ok (.aload_n 0, 1) := by decide +kernel
theorem dX3_factor_9 : decode cX3_factor 9 = .ok (.invokevirtual 137, 3) := by decide +kernel
theorem dX3_factor_12 : decode cX3_factor 12 = .ok (.istore_n 1, 1) := by decide +kernel
theorem dX3_factor_13 : decode cX3_factor 13 = .ok (.iload_n 1, 1) := by decide +kernel
theorem dX3_factor_14 : decode cX3_factor 14 = .ok (.bipush 33, 2) := by decide +kernel
theorem dX3_factor_16 : decode cX3_factor 16 = .ok (.if_icmp .eq 9, 3) := by decide +kernel
theorem dX3_factor_19 : decode cX3_factor 19 = .ok (.iload_n 1, 1) := by decide +kernel
theorem dX3_factor_20 : decode cX3_factor 20 = .ok (.bipush 40, 2) := by decide +kernel
theorem dX3_factor_22 : decode cX3_factor 22 = .ok (.if_icmp .ne 90, 3) := by decide +kernel
theorem dX3_factor_25 : decode cX3_factor 25 = .ok (.aload_n 0, 1) := by decide +kernel
theorem dX3_factor_26 : decode cX3_factor 26 = .ok (.aload_n 0, 1) := by decide +kernel
theorem dX3_factor_27 : decode cX3_factor 27 = .ok (.getfield 153, 3) := by decide +kernel
theorem dX3_factor_30 : decode cX3_factor 30 = .ok (.iconst 5, 1) := by decide +kernel
theorem dX3_factor_31 : decode cX3_factor 31 = .ok (.if_icmp .ne 7, 3) := by decide +kernel
theorem dX3_factor_34 : decode cX3_factor 34 = .ok (.iconst 1, 1) := by decide +kernel
theorem dX3_factor_35 : decode cX3_factor 35 = .ok (.goto 4, 3) := by decide +kernel
theorem dX3_factor_38 : decode cX3_factor 38 = .ok (.iconst 0, 1) := by decide +kernel
theorem dX3_factor_39 : decode cX3_factor 39 = .ok (.putfield 133, 3) := by decide +kernel
theorem dX3_factor_42 : decode cX3_factor 42 = .ok (.aload_n 0, 1) := by decide +kernel
theorem dX3_factor_43 : decode cX3_factor 43 = .ok (.dup, 1) := by decide +kernel
theorem dX3_factor_44 : decode cX3_factor 44 = .ok (.getfield 153, 3) := by decide +kernel
theorem dX3_factor_47 : decode cX3_factor 47 = .ok (.iconst 1, 1) := by decide +kernel
theorem dX3_factor_48 : decode cX3_factor 48 = .ok (.iadd, 1) := by decide +kernel
theorem dX3_factor_49 : decode cX3_factor 49 = .ok (.putfield 153, 3) := by decide +kernel
theorem dX3_factor_52 : decode cX3_factor 52 = .ok (.aload_n 0, 1) := by decide +kernel
theorem dX3_factor_53 : decode cX3_factor 53 = .ok (.dup, 1) := by decide +kernel
theorem dX3_factor_54 : decode cX3_factor 54 = .ok (.getfield 127, 3) := by decide +kernel
theorem dX3_factor_57 : decode cX3_factor 57 = .ok (.aload_n 0, 1) := by decide +kernel
theorem dX3_factor_58 : decode cX3_factor 58 = .ok (.getfield 133, 3) := by decide +kernel
theorem dX3_factor_61 : decode cX3_factor 61 = .ok (.ifCond .eq 7, 3) := by decide +kernel
theorem dX3_factor_64 : decode cX3_factor 64 = .ok (.iconst 0, 1) := by decide +kernel
theorem dX3_factor_65 : decode cX3_factor 65 = .ok (.goto 4, 3) := by decide +kernel
theorem dX3_factor_68 : decode cX3_factor 68 = .ok (.iconst 1, 1) := by decide +kernel
theorem dX3_factor_69 : decode cX3_factor 69 = .ok (.iadd, 1) := by decide +kernel
theorem dX3_factor_70 : decode cX3_factor 70 = .ok (.putfield 127, 3) := by decide +kernel
theorem dX3_factor_73 : decode cX3_factor 73 = .ok (.iload_n 1, 1) := by decide +kernel
theorem dX3_factor_74 : decode cX3_factor 74 = .ok (.bipush 33, 2) := by decide +kernel
theorem dX3_factor_76 : decode cX3_factor 76 = .ok (.if_icmp .ne 15, 3) := by decide +kernel
theorem dX3_factor_79 : decode cX3_factor 79 = .ok (.aload_n 0, 1) := by decide +kernel
theorem dX3_factor_80 : decode cX3_factor 80 = .ok (.invokevirtual 156, 3) := by decide +kernel
theorem dX3_factor_83 : decode cX3_factor 83 = .ok (.aload_n 0, 1) := by decide +kernel
theorem dX3_factor_84 : decode cX3_factor 84 = .ok (.iconst (-1), 1) := by decide +kernel
theorem dX3_factor_85 : decode cX3_factor 85 = .ok (.invokevirtual 159, 3) := by decide +kernel
theorem dX3_factor_88 : decode cX3_factor 88 = .ok (.goto 13, 3) := by decide +kernel
theorem dX3_factor_91 : decode cX3_factor 91 = .ok (.aload_n 0, 1) := by decide +kernel
theorem dX3_factor_92 : decode cX3_factor 92 = .ok (.invokevirtual 162, 3) := by decide +kernel
theorem dX3_factor_95 : decode cX3_factor 95 = .ok (.aload_n 0, 1) := by decide +kernel
theorem dX3_factor_96 : decode cX3_factor 96 = .ok (.bipush 41, 2) := by decide +kernel
theorem dX3_factor_98 : decode cX3_factor 98 = .ok (.invokevirtual 150, 3) := by decide +kernel
theorem dX3_factor_101 : decode cX3_factor 101 = .ok (.aload_n 0, 1) := by decide +kernel
theorem dX3_factor_102 : decode cX3_factor 102 = .ok (.dup, 1) := by decide +kernel
theorem dX3_factor_103 : decode cX3_factor 103 = .ok (.getfield 153, 3) := by decide +kernel
theorem dX3_factor_106 : decode cX3_factor 106 = .ok (.iconst 1, 1) := by decide +kernel
theorem dX3_factor_107 : decode cX3_factor 107 = .ok (.isub, 1) := by decide +kernel
theorem dX3_factor_108 : decode cX3_factor 108 = .ok (.putfield 153, 3) := by decide +kernel
theorem dX3_factor_111 : decode cX3_factor 111 = .ok (.return_, 1) := by decide +kernel
theorem dX3_factor_112 : decode cX3_factor 112 = .ok (.aload_n 0, 1) := by decide +kernel
theorem dX3_factor_113 : decode cX3_factor 113 = .ok (.invokevirtual 165, 3) := by decide +kernel
theorem dX3_factor_116 : decode cX3_factor 116 = .ok (.istore_n 2, 1) := by decide +kernel
theorem dX3_factor_117 : decode cX3_factor 117 = .ok (.aload_n 0, 1) := by decide +kernel
theorem dX3_factor_118 : decode cX3_factor 118 = .ok (.iload_n 2, 1) := by decide +kernel
theorem dX3_factor_119 : decode cX3_factor 119 = .ok (.iconst (-1), 1) := by decide +kernel
theorem dX3_factor_120 : decode cX3_factor 120 = .ok (.if_icmp .ne 7, 3) := by decide +kernel
theorem dX3_factor_123 : decode cX3_factor 123 = .ok (.iconst 1, 1) := by decide +kernel
theorem dX3_factor_124 : decode cX3_factor 124 = .ok (.goto 4, 3) := by decide +kernel
theorem dX3_factor_127 : decode cX3_factor 127 = .ok (.iconst 0, 1) := by decide +kernel
theorem dX3_factor_128 : decode cX3_factor 128 = .ok (.putfield 133, 3) := by decide +kernel
theorem dX3_factor_131 : decode cX3_factor 131 = .ok (.aload_n 0, 1) := by decide +kernel
theorem dX3_factor_132 : decode cX3_factor 132 = .ok (.dup, 1) := by decide +kernel
theorem dX3_factor_133 : decode cX3_factor 133 = .ok (.getfield 127, 3) := by decide +kernel
theorem dX3_factor_136 : decode cX3_factor 136 = .ok (.aload_n 0, 1) := by decide +kernel
theorem dX3_factor_137 : decode cX3_factor 137 = .ok (.getfield 133, 3) := by decide +kernel
theorem dX3_factor_140 : decode cX3_factor 140 = .ok (.ifCond .eq 7, 3) := by decide +kernel
theorem dX3_factor_143 : decode cX3_factor 143 = .ok (.iconst 0, 1) := by decide +kernel
theorem dX3_factor_144 : decode cX3_factor 144 = .ok (.goto 4, 3) := by decide +kernel
theorem dX3_factor_147 : decode cX3_factor 147 = .ok (.iconst 1, 1) := by decide +kernel
theorem dX3_factor_148 : decode cX3_factor 148 = .ok (.iadd, 1) := by decide +kernel
theorem dX3_factor_149 : decode cX3_factor 149 = .ok (.putfield 127, 3) := by decide +kernel
theorem dX3_factor_152 : decode cX3_factor 152 = .ok (.aload_n 0, 1) := by decide +kernel
theorem dX3_factor_153 : decode cX3_factor 153 = .ok (.invokevirtual 137, 3) := by decide +kernel
theorem dX3_factor_156 : decode cX3_factor 156 = .ok (.istore_n 3, 1) := by decide +kernel
theorem dX3_factor_157 : decode cX3_factor 157 = .ok (.aload_n 0, 1) := by decide +kernel
theorem dX3_factor_158 : decode cX3_factor 158 = .ok (.aload_n 0, 1) := by decide +kernel
theorem dX3_factor_159 : decode cX3_factor 159 = .ok (.getfield 133, 3) := by decide +kernel
theorem dX3_factor_162 : decode cX3_factor 162 = .ok (.ifCond .ne 21, 3) := by decide +kernel
theorem dX3_factor_165 : decode cX3_factor 165 = .ok (.iload_n 3, 1) := by decide +kernel
theorem dX3_factor_166 : decode cX3_factor 166 = .ok (.bipush 60, 2) := by decide +kernel
theorem dX3_factor_168 : decode cX3_factor 168 = .ok (.if_icmp .eq 19, 3) := by decide +kernel
theorem dX3_factor_171 : decode cX3_factor 171 = .ok (.iload_n 3, 1) := by decide +kernel
theorem dX3_factor_172 : decode cX3_factor 172 = .ok (.bipush 61, 2) := by decide +kernel
theorem dX3_factor_174 : decode cX3_factor 174 = .ok (.if_icmp .eq 13, 3) := by decide +kernel
theorem dX3_factor_177 : decode cX3_factor 177 = .ok (.iload_n 3, 1) := by decide +kernel
theorem dX3_factor_178 : decode cX3_factor 178 = .ok (.bipush 62, 2) := by decide +kernel
theorem dX3_factor_180 : decode cX3_factor 180 = .ok (.if_icmp .eq 7, 3) := by decide +kernel
theorem dX3_factor_183 : decode cX3_factor 183 = .ok (.iconst 1, 1) := by decide +kernel
theorem dX3_factor_184 : decode cX3_factor 184 = .ok (.goto 4, 3) := by decide +kernel
theorem dX3_factor_187 : decode cX3_factor 187 = .ok (.iconst 0, 1) := by decide +kernel
theorem dX3_factor_188 : decode cX3_factor 188 = .ok (.putfield 133, 3) := by decide +kernel
theorem dX3_factor_191 : decode cX3_factor 191 = .ok (.aload_n 0, 1) := by decide +kernel
theorem dX3_factor_192 : decode cX3_factor 192 = .ok (.dup, 1) := by decide +kernel
theorem dX3_factor_193 : decode cX3_factor 193 = .ok (.getfield 127, 3) := by decide +kernel
theorem dX3_factor_196 : decode cX3_factor 196 = .ok (.aload_n 0, 1) := by decide +kernel
theorem dX3_factor_197 : decode cX3_factor 197 = .ok (.getfield 133, 3) := by decide +kernel
theorem dX3_factor_200 : decode cX3_factor 200 = .ok (.ifCond .eq 7, 3) := by decide +kernel
theorem dX3_factor_203 : decode cX3_factor 203 = .ok (.iconst 0, 1) := by decide +kernel
theorem dX3_factor_204 : decode cX3_factor 204 = .ok (.goto 4, 3) := by decide +kernel
theorem dX3_factor_207 : decode cX3_factor 207 = .ok (.iconst 1, 1) := by decide +kernel
theorem dX3_factor_208 : decode cX3_factor 208 = .ok (.iadd, 1) := by decide +kernel
theorem dX3_factor_209 : decode cX3_factor 209 = .ok (.putfield 127, 3) := by decide +kernel
theorem dX3_factor_212 : decode cX3_factor 212 = .ok (.aload_n 0, 1) := by decide +kernel
theorem dX3_factor_213 : decode cX3_factor 213 = .ok (.invokevirtual 168, 3) := by decide +kernel
theorem dX3_factor_216 : decode cX3_factor 216 = .ok (.istore 4, 2) := by decide +kernel
theorem dX3_factor_218 : decode cX3_factor 218 = .ok (.aload_n 0, 1) := by decide +kernel
theorem dX3_factor_219 : decode cX3_factor 219 = .ok (.iload_n 2, 1) := by decide +kernel
theorem dX3_factor_220 : decode cX3_factor 220 = .ok (.bipush 8, 2) := by decide +kernel
theorem dX3_factor_222 : decode cX3_factor 222 = .ok (.iload_n 3, 1) := by decide +kernel
theorem dX3_factor_223 : decode cX3_factor 223 = .ok (.bipush 60, 2) := by decide +kernel
theorem dX3_factor_225 : decode cX3_factor 225 = .ok (.if_icmp .ne 7, 3) := by decide +kernel
theorem dX3_factor_228 : decode cX3_factor 228 = .ok (.iconst 0, 1) := by decide +kernel
theorem dX3_factor_229 : decode cX3_factor 229 = .ok (.goto 14, 3) := by decide +kernel
theorem dX3_factor_232 : decode cX3_factor 232 = .ok (.iload_n 3, 1) := by decide +kernel
theorem dX3_factor_233 : decode cX3_factor 233 = .ok (.bipush 61, 2) := by decide +kernel
theorem dX3_factor_235 : decode cX3_factor 235 = .ok (.if_icmp .ne 7, 3) := by decide +kernel
theorem dX3_factor_238 : decode cX3_factor 238 = .ok (.iconst 1, 1) := by decide +kernel
theorem dX3_factor_239 : decode cX3_factor 239 = .ok (.goto 4, 3) := by decide +kernel
theorem dX3_factor_242 : decode cX3_factor 242 = .ok (.iconst 2, 1) := by decide +kernel
theorem dX3_factor_243 : decode cX3_factor 243 = .ok (.imul, 1) := by decide +kernel
theorem dX3_factor_244 : decode cX3_factor 244 = .ok (.iadd, 1) := by decide +kernel
theorem dX3_factor_245 : decode cX3_factor 245 = .ok (.bipush 32, 2) := by decide +kernel
theorem dX3_factor_247 : decode cX3_factor 247 = .ok (.iload 4, 2) := by decide +kernel
theorem dX3_factor_249 : decode cX3_factor 249 = .ok (.imul, 1) := by decide +kernel
theorem dX3_factor_250 : decode cX3_factor 250 = .ok (.iadd, 1) := by decide +kernel
theorem dX3_factor_251 : decode cX3_factor 251 = .ok (.invokevirtual 159, 3) := by decide +kernel
theorem dX3_factor_254 : decode cX3_factor 254 = .ok (.return_, 1) := by decide +kernel
abbrev cX3_emits : ByteArray := prog_22_method_32_code
def yX3_emits : MethodName := ⟨RX3, "emits", "(I)V"⟩
theorem dX3_emits_0 : decode cX3_emits 0 = .ok (.aload_n 0, 1) := by decide +kernel
theorem dX3_emits_1 : decode cX3_emits 1 = .ok (.getfield 133, 3) := by decide +kernel
theorem dX3_emits_4 : decode cX3_emits 4 = .ok (.ifCond .ne 40, 3) := by decide +kernel
theorem dX3_emits_7 : decode cX3_emits 7 = .ok (.aload_n 0, 1) := by decide +kernel
theorem dX3_emits_8 : decode cX3_emits 8 = .ok (.getfield 34, 3) := by decide +kernel
theorem dX3_emits_11 : decode cX3_emits 11 = .ok (.sipush 140, 3) := by decide +kernel
theorem dX3_emits_14 : decode cX3_emits 14 = .ok (.aload_n 0, 1) := by decide +kernel
theorem dX3_emits_15 : decode cX3_emits 15 = .ok (.getfield 130, 3) := by decide +kernel
theorem dX3_emits_18 : decode cX3_emits 18 = .ok (.imul, 1) := by decide +kernel
theorem dX3_emits_19 : decode cX3_emits 19 = .ok (.aload_n 0, 1) := by decide +kernel
theorem dX3_emits_20 : decode cX3_emits 20 = .ok (.getfield 37, 3) := by decide +kernel
theorem dX3_emits_23 : decode cX3_emits 23 = .ok (.aload_n 0, 1) := by decide +kernel
theorem dX3_emits_24 : decode cX3_emits 24 = .ok (.getfield 130, 3) := by decide +kernel
theorem dX3_emits_27 : decode cX3_emits 27 = .ok (.iaload, 1) := by decide +kernel
theorem dX3_emits_28 : decode cX3_emits 28 = .ok (.iadd, 1) := by decide +kernel
theorem dX3_emits_29 : decode cX3_emits 29 = .ok (.iload_n 1, 1) := by decide +kernel
theorem dX3_emits_30 : decode cX3_emits 30 = .ok (.iastore, 1) := by decide +kernel
theorem dX3_emits_31 : decode cX3_emits 31 = .ok (.aload_n 0, 1) := by decide +kernel
theorem dX3_emits_32 : decode cX3_emits 32 = .ok (.getfield 37, 3) := by decide +kernel
theorem dX3_emits_35 : decode cX3_emits 35 = .ok (.aload_n 0, 1) := by decide +kernel
theorem dX3_emits_36 : decode cX3_emits 36 = .ok (.getfield 130, 3) := by decide +kernel
theorem dX3_emits_39 : decode cX3_emits 39 = .ok (.dup2, 1) := by decide +kernel
theorem dX3_emits_40 : decode cX3_emits 40 = .ok (.iaload, 1) := by decide +kernel
theorem dX3_emits_41 : decode cX3_emits 41 = .ok (.iconst 1, 1) := by decide +kernel
theorem dX3_emits_42 : decode cX3_emits 42 = .ok (.iadd, 1) := by decide +kernel
theorem dX3_emits_43 : decode cX3_emits 43 = .ok (.iastore, 1) := by decide +kernel
theorem dX3_emits_44 : decode cX3_emits 44 = .ok (.return_, 1) := by decide +kernel
abbrev cX3_letter : ByteArray := prog_22_method_31_code
def yX3_letter : MethodName := ⟨RX3, "letter", "()I"⟩
theorem dX3_letter_0 : decode cX3_letter 0 = .ok (.aload_n 0, 1) := by decide +kernel
theorem dX3_letter_1 : decode cX3_letter 1 = .ok (.invokevirtual 137, 3) := by decide +kernel
theorem dX3_letter_4 : decode cX3_letter 4 = .ok (.tableswitch 82 102 115 #[72, 74, 82, 82, 82, 82, 82, 82, 80, 78, 82, 82, 82, 76], 72) := by decide +kernel
theorem dX3_letter_76 : decode cX3_letter 76 = .ok (.iconst 0, 1) := by decide +kernel
theorem dX3_letter_77 : decode cX3_letter 77 = .ok (.ireturn, 1) := by decide +kernel
theorem dX3_letter_78 : decode cX3_letter 78 = .ok (.iconst 1, 1) := by decide +kernel
theorem dX3_letter_79 : decode cX3_letter 79 = .ok (.ireturn, 1) := by decide +kernel
theorem dX3_letter_80 : decode cX3_letter 80 = .ok (.iconst 2, 1) := by decide +kernel
theorem dX3_letter_81 : decode cX3_letter 81 = .ok (.ireturn, 1) := by decide +kernel
theorem dX3_letter_82 : decode cX3_letter 82 = .ok (.iconst 3, 1) := by decide +kernel
theorem dX3_letter_83 : decode cX3_letter 83 = .ok (.ireturn, 1) := by decide +kernel
theorem dX3_letter_84 : decode cX3_letter 84 = .ok (.iconst 4, 1) := by decide +kernel
theorem dX3_letter_85 : decode cX3_letter 85 = .ok (.ireturn, 1) := by decide +kernel
theorem dX3_letter_86 : decode cX3_letter 86 = .ok (.iconst (-1), 1) := by decide +kernel
theorem dX3_letter_87 : decode cX3_letter 87 = .ok (.ireturn, 1) := by decide +kernel
abbrev cX3_number : ByteArray := prog_22_method_30_code
def yX3_number : MethodName := ⟨RX3, "number", "()I"⟩
theorem dX3_number_0 : decode cX3_number 0 = .ok (.aload_n 0, 1) := by decide +kernel
theorem dX3_number_1 : decode cX3_number 1 = .ok (.aload_n 0, 1) := by decide +kernel
theorem dX3_number_2 : decode cX3_number 2 = .ok (.getfield 133, 3) := by decide +kernel
theorem dX3_number_5 : decode cX3_number 5 = .ok (.ifCond .ne 17, 3) := by decide +kernel
theorem dX3_number_8 : decode cX3_number 8 = .ok (.aload_n 0, 1) := by decide +kernel
theorem dX3_number_9 : decode cX3_number 9 = .ok (.invokevirtual 137, 3) := by decide +kernel
theorem dX3_number_12 : decode cX3_number 12 = .ok (.bipush 48, 2) := by decide +kernel
theorem dX3_number_14 : decode cX3_number 14 = .ok (.bipush 57, 2) := by decide +kernel
theorem dX3_number_16 : decode cX3_number 16 = .ok (.invokestatic 69, 3) := by decide +kernel
theorem dX3_number_19 : decode cX3_number 19 = .ok (.ifCond .ne 7, 3) := by decide +kernel
theorem dX3_number_22 : decode cX3_number 22 = .ok (.iconst 1, 1) := by decide +kernel
theorem dX3_number_23 : decode cX3_number 23 = .ok (.goto 4, 3) := by decide +kernel
theorem dX3_number_26 : decode cX3_number 26 = .ok (.iconst 0, 1) := by decide +kernel
theorem dX3_number_27 : decode cX3_number 27 = .ok (.putfield 133, 3) := by decide +kernel
theorem dX3_number_30 : decode cX3_number 30 = .ok (.iconst 0, 1) := by decide +kernel
theorem dX3_number_31 : decode cX3_number 31 = .ok (.istore_n 1, 1) := by decide +kernel
theorem dX3_number_32 : decode cX3_number 32 = .ok (.iconst 0, 1) := by decide +kernel
theorem dX3_number_33 : decode cX3_number 33 = .ok (.istore_n 2, 1) := by decide +kernel
theorem dX3_number_34 : decode cX3_number 34 = .ok (.iload_n 2, 1) := by decide +kernel
theorem dX3_number_35 : decode cX3_number 35 = .ok (.iconst 3, 1) := by decide +kernel
theorem dX3_number_36 : decode cX3_number 36 = .ok (.if_icmp .ge 61, 3) := by decide +kernel
theorem dX3_number_39 : decode cX3_number 39 = .ok (.aload_n 0, 1) := by decide +kernel
theorem dX3_number_40 : decode cX3_number 40 = .ok (.getfield 133, 3) := by decide +kernel
theorem dX3_number_43 : decode cX3_number 43 = .ok (.ifCond .ne 54, 3) := by decide +kernel
theorem dX3_number_46 : decode cX3_number 46 = .ok (.aload_n 0, 1) := by decide +kernel
theorem dX3_number_47 : decode cX3_number 47 = .ok (.invokevirtual 137, 3) := by decide +kernel
theorem dX3_number_50 : decode cX3_number 50 = .ok (.bipush 48, 2) := by decide +kernel
theorem dX3_number_52 : decode cX3_number 52 = .ok (.bipush 57, 2) := by decide +kernel
theorem dX3_number_54 : decode cX3_number 54 = .ok (.invokestatic 69, 3) := by decide +kernel
theorem dX3_number_57 : decode cX3_number 57 = .ok (.ifCond .eq 40, 3) := by decide +kernel
theorem dX3_number_60 : decode cX3_number 60 = .ok (.iload_n 2, 1) := by decide +kernel
theorem dX3_number_61 : decode cX3_number 61 = .ok (.ifCond .eq 7, 3) := by decide +kernel
theorem dX3_number_64 : decode cX3_number 64 = .ok (.iload_n 1, 1) := by decide +kernel
theorem dX3_number_65 : decode cX3_number 65 = .ok (.ifCond .le 32, 3) := by decide +kernel
theorem dX3_number_68 : decode cX3_number 68 = .ok (.bipush 10, 2) := by decide +kernel
theorem dX3_number_70 : decode cX3_number 70 = .ok (.iload_n 1, 1) := by decide +kernel
theorem dX3_number_71 : decode cX3_number 71 = .ok (.imul, 1) := by decide +kernel
theorem dX3_number_72 : decode cX3_number 72 = .ok (.aload_n 0, 1) := by decide +kernel
theorem dX3_number_73 : decode cX3_number 73 = .ok (.invokevirtual 137, 3) := by decide +kernel
theorem dX3_number_76 : decode cX3_number 76 = .ok (.iadd, 1) := by decide +kernel
theorem dX3_number_77 : decode cX3_number 77 = .ok (.bipush 48, 2) := by decide +kernel
theorem dX3_number_79 : decode cX3_number 79 = .ok (.isub, 1) := by decide +kernel
theorem dX3_number_80 : decode cX3_number 80 = .ok (.istore_n 1, 1) := by decide +kernel
theorem dX3_number_81 : decode cX3_number 81 = .ok (.aload_n 0, 1) := by decide +kernel
theorem dX3_number_82 : decode cX3_number 82 = .ok (.dup, 1) := by decide +kernel
theorem dX3_number_83 : decode cX3_number 83 = .ok (.getfield 127, 3) := by decide +kernel
theorem dX3_number_86 : decode cX3_number 86 = .ok (.iconst 1, 1) := by decide +kernel
theorem dX3_number_87 : decode cX3_number 87 = .ok (.iadd, 1) := by decide +kernel
theorem dX3_number_88 : decode cX3_number 88 = .ok (.putfield 127, 3) := by decide +kernel
theorem dX3_number_91 : decode cX3_number 91 = .ok (.iinc 2 1, 3) := by decide +kernel
theorem dX3_number_94 : decode cX3_number 94 = .ok (.goto (-60), 3) := by decide +kernel
theorem dX3_number_97 : decode cX3_number 97 = .ok (.iload_n 1, 1) := by decide +kernel
theorem dX3_number_98 : decode cX3_number 98 = .ok (.ireturn, 1) := by decide +kernel
abbrev cX3_holds : ByteArray := prog_22_method_43_code
def yX3_holds : MethodName := ⟨RX3, "holds", "(IIIIIII)I"⟩
theorem dX3_holds_0 : decode cX3_holds 0 = .ok (.aload_n 0, 1) := by decide +kernel
theorem dX3_holds_1 : decode cX3_holds 1 = .ok (.iload_n 1, 1) := by decide +kernel
theorem dX3_holds_2 : decode cX3_holds 2 = .ok (.invokevirtual 101, 3) := by decide +kernel
theorem dX3_holds_5 : decode cX3_holds 5 = .ok (.ifCond .eq 12, 3) := by decide +kernel
theorem dX3_holds_8 : decode cX3_holds 8 = .ok (.iload_n 2, 1) := by decide +kernel
theorem dX3_holds_9 : decode cX3_holds 9 = .ok (.iconst 0, 1) := by decide +kernel
theorem dX3_holds_10 : decode cX3_holds 10 = .ok (.iconst 3, 1) := by decide +kernel
theorem dX3_holds_11 : decode cX3_holds 11 = .ok (.invokestatic 69, 3) := by decide +kernel
theorem dX3_holds_14 : decode cX3_holds 14 = .ok (.ifCond .ne 5, 3) := by decide +kernel
theorem dX3_holds_17 : decode cX3_holds 17 = .ok (.iconst (-1), 1) := by decide +kernel
theorem dX3_holds_18 : decode cX3_holds 18 = .ok (.ireturn, 1) := by decide +kernel
theorem dX3_holds_19 : decode cX3_holds 19 = .ok (.iload_n 3, 1) := by decide +kernel
theorem dX3_holds_20 : decode cX3_holds 20 = .ok (.invokestatic 201, 3) := by decide +kernel
theorem dX3_holds_23 : decode cX3_holds 23 = .ok (.ifCond .eq 35, 3) := by decide +kernel
theorem dX3_holds_26 : decode cX3_holds 26 = .ok (.iload 4, 2) := by decide +kernel
theorem dX3_holds_28 : decode cX3_holds 28 = .ok (.invokestatic 201, 3) := by decide +kernel
theorem dX3_holds_31 : decode cX3_holds 31 = .ok (.ifCond .eq 27, 3) := by decide +kernel
theorem dX3_holds_34 : decode cX3_holds 34 = .ok (.iload 5, 2) := by decide +kernel
theorem dX3_holds_36 : decode cX3_holds 36 = .ok (.invokestatic 201, 3) := by decide +kernel
theorem dX3_holds_39 : decode cX3_holds 39 = .ok (.ifCond .eq 19, 3) := by decide +kernel
theorem dX3_holds_42 : decode cX3_holds 42 = .ok (.iload 6, 2) := by decide +kernel
theorem dX3_holds_44 : decode cX3_holds 44 = .ok (.invokestatic 201, 3) := by decide +kernel
theorem dX3_holds_47 : decode cX3_holds 47 = .ok (.ifCond .eq 11, 3) := by decide +kernel
theorem dX3_holds_50 : decode cX3_holds 50 = .ok (.iload 7, 2) := by decide +kernel
theorem dX3_holds_52 : decode cX3_holds 52 = .ok (.invokestatic 201, 3) := by decide +kernel
theorem dX3_holds_55 : decode cX3_holds 55 = .ok (.ifCond .ne 6, 3) := by decide +kernel
theorem dX3_holds_58 : decode cX3_holds 58 = .ok (.bipush (-2), 2) := by decide +kernel
theorem dX3_holds_60 : decode cX3_holds 60 = .ok (.ireturn, 1) := by decide +kernel
theorem dX3_holds_61 : decode cX3_holds 61 = .ok (.aload_n 0, 1) := by decide +kernel
theorem dX3_holds_62 : decode cX3_holds 62 = .ok (.iload_n 1, 1) := by decide +kernel
theorem dX3_holds_63 : decode cX3_holds 63 = .ok (.iload_n 2, 1) := by decide +kernel
theorem dX3_holds_64 : decode cX3_holds 64 = .ok (.iload_n 3, 1) := by decide +kernel
theorem dX3_holds_65 : decode cX3_holds 65 = .ok (.iload 4, 2) := by decide +kernel
theorem dX3_holds_67 : decode cX3_holds 67 = .ok (.iload 5, 2) := by decide +kernel
theorem dX3_holds_69 : decode cX3_holds 69 = .ok (.iload 6, 2) := by decide +kernel
theorem dX3_holds_71 : decode cX3_holds 71 = .ok (.iload 7, 2) := by decide +kernel
theorem dX3_holds_73 : decode cX3_holds 73 = .ok (.invokevirtual 204, 3) := by decide +kernel
theorem dX3_holds_76 : decode cX3_holds 76 = .ok (.ifCond .eq 7, 3) := by decide +kernel
theorem dX3_holds_79 : decode cX3_holds 79 = .ok (.iconst 1, 1) := by decide +kernel
theorem dX3_holds_80 : decode cX3_holds 80 = .ok (.goto 4, 3) := by decide +kernel
theorem dX3_holds_83 : decode cX3_holds 83 = .ok (.iconst 0, 1) := by decide +kernel
theorem dX3_holds_84 : decode cX3_holds 84 = .ok (.ireturn, 1) := by decide +kernel
abbrev cX3_isThousand : ByteArray := prog_22_method_42_code
def yX3_isThousand : MethodName := ⟨RX3, "isThousand", "(I)Z"⟩
theorem dX3_isThousand_0 : decode cX3_isThousand 0 = .ok (.iload_n 0, 1) := by decide +kernel
theorem dX3_isThousand_1 : decode cX3_isThousand 1 = .ok (.iconst 0, 1) := by decide +kernel
theorem dX3_isThousand_2 : decode cX3_isThousand 2 = .ok (.sipush 999, 3) := by decide +kernel
theorem dX3_isThousand_5 : decode cX3_isThousand 5 = .ok (.invokestatic 69, 3) := by decide +kernel
theorem dX3_isThousand_8 : decode cX3_isThousand 8 = .ok (.ireturn, 1) := by decide +kernel
abbrev cX3_holdsFor : ByteArray := prog_22_method_41_code
def yX3_holdsFor : MethodName := ⟨RX3, "holdsFor", "(IIIIIII)Z"⟩
theorem dX3_holdsFor_0 : decode cX3_holdsFor 0 = .ok (.aload_n 0, 1) := by decide +kernel
theorem dX3_holdsFor_1 : decode cX3_holdsFor 1 = .ok (.getfield 31, 3) := by decide +kernel
theorem dX3_holdsFor_4 : decode cX3_holdsFor 4 = .ok (.iconst 0, 1) := by decide +kernel
theorem dX3_holdsFor_5 : decode cX3_holdsFor 5 = .ok (.iload_n 3, 1) := by decide +kernel
theorem dX3_holdsFor_6 : decode cX3_holdsFor 6 = .ok (.iastore, 1) := by decide +kernel
theorem dX3_holdsFor_7 : decode cX3_holdsFor 7 = .ok (.aload_n 0, 1) := by decide +kernel
theorem dX3_holdsFor_8 : decode cX3_holdsFor 8 = .ok (.getfield 31, 3) := by decide +kernel
theorem dX3_holdsFor_11 : decode cX3_holdsFor 11 = .ok (.iconst 1, 1) := by decide +kernel
theorem dX3_holdsFor_12 : decode cX3_holdsFor 12 = .ok (.iload 4, 2) := by decide +kernel
theorem dX3_holdsFor_14 : decode cX3_holdsFor 14 = .ok (.iastore, 1) := by decide +kernel
theorem dX3_holdsFor_15 : decode cX3_holdsFor 15 = .ok (.aload_n 0, 1) := by decide +kernel
theorem dX3_holdsFor_16 : decode cX3_holdsFor 16 = .ok (.getfield 31, 3) := by decide +kernel
theorem dX3_holdsFor_19 : decode cX3_holdsFor 19 = .ok (.iconst 2, 1) := by decide +kernel
theorem dX3_holdsFor_20 : decode cX3_holdsFor 20 = .ok (.iload 5, 2) := by decide +kernel
theorem dX3_holdsFor_22 : decode cX3_holdsFor 22 = .ok (.iastore, 1) := by decide +kernel
theorem dX3_holdsFor_23 : decode cX3_holdsFor 23 = .ok (.aload_n 0, 1) := by decide +kernel
theorem dX3_holdsFor_24 : decode cX3_holdsFor 24 = .ok (.getfield 31, 3) := by decide +kernel
theorem dX3_holdsFor_27 : decode cX3_holdsFor 27 = .ok (.iconst 3, 1) := by decide +kernel
theorem dX3_holdsFor_28 : decode cX3_holdsFor 28 = .ok (.iload 6, 2) := by decide +kernel
theorem dX3_holdsFor_30 : decode cX3_holdsFor 30 = .ok (.iastore, 1) := by decide +kernel
theorem dX3_holdsFor_31 : decode cX3_holdsFor 31 = .ok (.aload_n 0, 1) := by decide +kernel
theorem dX3_holdsFor_32 : decode cX3_holdsFor 32 = .ok (.getfield 31, 3) := by decide +kernel
theorem dX3_holdsFor_35 : decode cX3_holdsFor 35 = .ok (.iconst 4, 1) := by decide +kernel
theorem dX3_holdsFor_36 : decode cX3_holdsFor 36 = .ok (.iload 7, 2) := by decide +kernel
theorem dX3_holdsFor_38 : decode cX3_holdsFor 38 = .ok (.iastore, 1) := by decide +kernel
theorem dX3_holdsFor_39 : decode cX3_holdsFor 39 = .ok (.iload_n 1, 1) := by decide +kernel
theorem dX3_holdsFor_40 : decode cX3_holdsFor 40 = .ok (.iconst (-1), 1) := by decide +kernel
theorem dX3_holdsFor_41 : decode cX3_holdsFor 41 = .ok (.if_icmp .eq 16, 3) := by decide +kernel
theorem dX3_holdsFor_44 : decode cX3_holdsFor 44 = .ok (.aload_n 0, 1) := by decide +kernel
theorem dX3_holdsFor_45 : decode cX3_holdsFor 45 = .ok (.iload_n 1, 1) := by decide +kernel
theorem dX3_holdsFor_46 : decode cX3_holdsFor 46 = .ok (.iload_n 2, 1) := by decide +kernel
theorem dX3_holdsFor_47 : decode cX3_holdsFor 47 = .ok (.invokevirtual 198, 3) := by decide +kernel
theorem dX3_holdsFor_50 : decode cX3_holdsFor 50 = .ok (.ifCond .eq 7, 3) := by decide +kernel
theorem dX3_holdsFor_53 : decode cX3_holdsFor 53 = .ok (.iconst 1, 1) := by decide +kernel
theorem dX3_holdsFor_54 : decode cX3_holdsFor 54 = .ok (.goto 4, 3) := by decide +kernel
theorem dX3_holdsFor_57 : decode cX3_holdsFor 57 = .ok (.iconst 0, 1) := by decide +kernel
theorem dX3_holdsFor_58 : decode cX3_holdsFor 58 = .ok (.ireturn, 1) := by decide +kernel
abbrev cX3_goes : ByteArray := prog_22_method_39_code
def yX3_goes : MethodName := ⟨RX3, "goes", "(II)Z"⟩
theorem dX3_goes_0 : decode cX3_goes 0 = .ok (.iconst 0, 1) := by decide +kernel
theorem dX3_goes_1 : decode cX3_goes 1 = .ok (.istore_n 3, 1) := by decide +kernel
theorem dX3_goes_2 : decode cX3_goes 2 = .ok (.iconst 0, 1) := by decide +kernel
theorem dX3_goes_3 : decode cX3_goes 3 = .ok (.istore 4, 2) := by decide +kernel
theorem dX3_goes_5 : decode cX3_goes 5 = .ok (.sipush 140, 3) := by decide +kernel
theorem dX3_goes_8 : decode cX3_goes 8 = .ok (.iload_n 1, 1) := by decide +kernel
theorem dX3_goes_9 : decode cX3_goes 9 = .ok (.imul, 1) := by decide +kernel
theorem dX3_goes_10 : decode cX3_goes 10 = .ok (.istore 5, 2) := by decide +kernel
theorem dX3_goes_12 : decode cX3_goes 12 = .ok (.iload 5, 2) := by decide +kernel
theorem dX3_goes_14 : decode cX3_goes 14 = .ok (.sipush 140, 3) := by decide +kernel
theorem dX3_goes_17 : decode cX3_goes 17 = .ok (.iload_n 1, 1) := by decide +kernel
theorem dX3_goes_18 : decode cX3_goes 18 = .ok (.imul, 1) := by decide +kernel
theorem dX3_goes_19 : decode cX3_goes 19 = .ok (.aload_n 0, 1) := by decide +kernel
theorem dX3_goes_20 : decode cX3_goes 20 = .ok (.getfield 37, 3) := by decide +kernel
theorem dX3_goes_23 : decode cX3_goes 23 = .ok (.iload_n 1, 1) := by decide +kernel
theorem dX3_goes_24 : decode cX3_goes 24 = .ok (.iaload, 1) := by decide +kernel
theorem dX3_goes_25 : decode cX3_goes 25 = .ok (.iadd, 1) := by decide +kernel
theorem dX3_goes_26 : decode cX3_goes 26 = .ok (.if_icmp .ge 205, 3) := by decide +kernel
theorem dX3_goes_29 : decode cX3_goes 29 = .ok (.aload_n 0, 1) := by decide +kernel
theorem dX3_goes_30 : decode cX3_goes 30 = .ok (.getfield 34, 3) := by decide +kernel
theorem dX3_goes_33 : decode cX3_goes 33 = .ok (.iload 5, 2) := by decide +kernel
theorem dX3_goes_35 : decode cX3_goes 35 = .ok (.iaload, 1) := by decide +kernel
theorem dX3_goes_36 : decode cX3_goes 36 = .ok (.istore 6, 2) := by decide +kernel
theorem dX3_goes_38 : decode cX3_goes 38 = .ok (.iload 6, 2) := by decide +kernel
theorem dX3_goes_40 : decode cX3_goes 40 = .ok (.ifCond .lt 49, 3) := by decide +kernel
theorem dX3_goes_43 : decode cX3_goes 43 = .ok (.aload_n 0, 1) := by decide +kernel
theorem dX3_goes_44 : decode cX3_goes 44 = .ok (.getfield 40, 3) := by decide +kernel
theorem dX3_goes_47 : decode cX3_goes 47 = .ok (.iload_n 3, 1) := by decide +kernel
theorem dX3_goes_48 : decode cX3_goes 48 = .ok (.aload_n 0, 1) := by decide +kernel
theorem dX3_goes_49 : decode cX3_goes 49 = .ok (.iload 6, 2) := by decide +kernel
theorem dX3_goes_51 : decode cX3_goes 51 = .ok (.iload_n 1, 1) := by decide +kernel
theorem dX3_goes_52 : decode cX3_goes 52 = .ok (.aload_n 0, 1) := by decide +kernel
theorem dX3_goes_53 : decode cX3_goes 53 = .ok (.getfield 48, 3) := by decide +kernel
theorem dX3_goes_56 : decode cX3_goes 56 = .ok (.if_icmp .ne 19, 3) := by decide +kernel
theorem dX3_goes_59 : decode cX3_goes 59 = .ok (.iload 4, 2) := by decide +kernel
theorem dX3_goes_61 : decode cX3_goes 61 = .ok (.aload_n 0, 1) := by decide +kernel
theorem dX3_goes_62 : decode cX3_goes 62 = .ok (.getfield 44, 3) := by decide +kernel
theorem dX3_goes_65 : decode cX3_goes 65 = .ok (.if_icmp .ne 10, 3) := by decide +kernel
theorem dX3_goes_68 : decode cX3_goes 68 = .ok (.aload_n 0, 1) := by decide +kernel
theorem dX3_goes_69 : decode cX3_goes 69 = .ok (.getfield 189, 3) := by decide +kernel
theorem dX3_goes_72 : decode cX3_goes 72 = .ok (.goto 4, 3) := by decide +kernel
theorem dX3_goes_75 : decode cX3_goes 75 = .ok (.iconst 0, 1) := by decide +kernel
theorem dX3_goes_76 : decode cX3_goes 76 = .ok (.invokevirtual 192, 3) := by decide +kernel
theorem dX3_goes_79 : decode cX3_goes 79 = .ok (.bastore, 1) := by decide +kernel
theorem dX3_goes_80 : decode cX3_goes 80 = .ok (.iinc 3 1, 3) := by decide +kernel
theorem dX3_goes_83 : decode cX3_goes 83 = .ok (.iinc 4 1, 3) := by decide +kernel
theorem dX3_goes_86 : decode cX3_goes 86 = .ok (.goto 139, 3) := by decide +kernel
theorem dX3_goes_89 : decode cX3_goes 89 = .ok (.iload 6, 2) := by decide +kernel
theorem dX3_goes_91 : decode cX3_goes 91 = .ok (.iconst (-1), 1) := by decide +kernel
theorem dX3_goes_92 : decode cX3_goes 92 = .ok (.if_icmp .ne 30, 3) := by decide +kernel
theorem dX3_goes_95 : decode cX3_goes 95 = .ok (.aload_n 0, 1) := by decide +kernel
theorem dX3_goes_96 : decode cX3_goes 96 = .ok (.getfield 40, 3) := by decide +kernel
theorem dX3_goes_99 : decode cX3_goes 99 = .ok (.iload_n 3, 1) := by decide +kernel
theorem dX3_goes_100 : decode cX3_goes 100 = .ok (.iconst 1, 1) := by decide +kernel
theorem dX3_goes_101 : decode cX3_goes 101 = .ok (.isub, 1) := by decide +kernel
theorem dX3_goes_102 : decode cX3_goes 102 = .ok (.aload_n 0, 1) := by decide +kernel
theorem dX3_goes_103 : decode cX3_goes 103 = .ok (.getfield 40, 3) := by decide +kernel
theorem dX3_goes_106 : decode cX3_goes 106 = .ok (.iload_n 3, 1) := by decide +kernel
theorem dX3_goes_107 : decode cX3_goes 107 = .ok (.iconst 1, 1) := by decide +kernel
theorem dX3_goes_108 : decode cX3_goes 108 = .ok (.isub, 1) := by decide +kernel
theorem dX3_goes_109 : decode cX3_goes 109 = .ok (.baload, 1) := by decide +kernel
theorem dX3_goes_110 : decode cX3_goes 110 = .ok (.ifCond .ne 7, 3) := by decide +kernel
theorem dX3_goes_113 : decode cX3_goes 113 = .ok (.iconst 1, 1) := by decide +kernel
theorem dX3_goes_114 : decode cX3_goes 114 = .ok (.goto 4, 3) := by decide +kernel
theorem dX3_goes_117 : decode cX3_goes 117 = .ok (.iconst 0, 1) := by decide +kernel
theorem dX3_goes_118 : decode cX3_goes 118 = .ok (.bastore, 1) := by decide +kernel
theorem dX3_goes_119 : decode cX3_goes 119 = .ok (.goto 106, 3) := by decide +kernel
theorem dX3_goes_122 : decode cX3_goes 122 = .ok (.iload 6, 2) := by decide +kernel
theorem dX3_goes_124 : decode cX3_goes 124 = .ok (.bipush (-10), 2) := by decide +kernel
theorem dX3_goes_126 : decode cX3_goes 126 = .ok (.if_icmp .le 77, 3) := by decide +kernel
theorem dX3_goes_129 : decode cX3_goes 129 = .ok (.iinc 3 (-1), 3) := by decide +kernel
theorem dX3_goes_132 : decode cX3_goes 132 = .ok (.aload_n 0, 1) := by decide +kernel
theorem dX3_goes_133 : decode cX3_goes 133 = .ok (.getfield 40, 3) := by decide +kernel
theorem dX3_goes_136 : decode cX3_goes 136 = .ok (.iload_n 3, 1) := by decide +kernel
theorem dX3_goes_137 : decode cX3_goes 137 = .ok (.iconst 1, 1) := by decide +kernel
theorem dX3_goes_138 : decode cX3_goes 138 = .ok (.isub, 1) := by decide +kernel
theorem dX3_goes_139 : decode cX3_goes 139 = .ok (.iload 6, 2) := by decide +kernel
theorem dX3_goes_141 : decode cX3_goes 141 = .ok (.bipush (-2), 2) := by decide +kernel
theorem dX3_goes_143 : decode cX3_goes 143 = .ok (.if_icmp .ne 31, 3) := by decide +kernel
theorem dX3_goes_146 : decode cX3_goes 146 = .ok (.aload_n 0, 1) := by decide +kernel
theorem dX3_goes_147 : decode cX3_goes 147 = .ok (.getfield 40, 3) := by decide +kernel
theorem dX3_goes_150 : decode cX3_goes 150 = .ok (.iload_n 3, 1) := by decide +kernel
theorem dX3_goes_151 : decode cX3_goes 151 = .ok (.iconst 1, 1) := by decide +kernel
theorem dX3_goes_152 : decode cX3_goes 152 = .ok (.isub, 1) := by decide +kernel
theorem dX3_goes_153 : decode cX3_goes 153 = .ok (.baload, 1) := by decide +kernel
theorem dX3_goes_154 : decode cX3_goes 154 = .ok (.ifCond .eq 16, 3) := by decide +kernel
theorem dX3_goes_157 : decode cX3_goes 157 = .ok (.aload_n 0, 1) := by decide +kernel
theorem dX3_goes_158 : decode cX3_goes 158 = .ok (.getfield 40, 3) := by decide +kernel
theorem dX3_goes_161 : decode cX3_goes 161 = .ok (.iload_n 3, 1) := by decide +kernel
theorem dX3_goes_162 : decode cX3_goes 162 = .ok (.baload, 1) := by decide +kernel
theorem dX3_goes_163 : decode cX3_goes 163 = .ok (.ifCond .eq 7, 3) := by decide +kernel
theorem dX3_goes_166 : decode cX3_goes 166 = .ok (.iconst 1, 1) := by decide +kernel
theorem dX3_goes_167 : decode cX3_goes 167 = .ok (.goto 32, 3) := by decide +kernel
theorem dX3_goes_170 : decode cX3_goes 170 = .ok (.iconst 0, 1) := by decide +kernel
theorem dX3_goes_171 : decode cX3_goes 171 = .ok (.goto 28, 3) := by decide +kernel
theorem dX3_goes_174 : decode cX3_goes 174 = .ok (.aload_n 0, 1) := by decide +kernel
theorem dX3_goes_175 : decode cX3_goes 175 = .ok (.getfield 40, 3) := by decide +kernel
theorem dX3_goes_178 : decode cX3_goes 178 = .ok (.iload_n 3, 1) := by decide +kernel
theorem dX3_goes_179 : decode cX3_goes 179 = .ok (.iconst 1, 1) := by decide +kernel
theorem dX3_goes_180 : decode cX3_goes 180 = .ok (.isub, 1) := by decide +kernel
theorem dX3_goes_181 : decode cX3_goes 181 = .ok (.baload, 1) := by decide +kernel
theorem dX3_goes_182 : decode cX3_goes 182 = .ok (.ifCond .ne 12, 3) := by decide +kernel
theorem dX3_goes_185 : decode cX3_goes 185 = .ok (.aload_n 0, 1) := by decide +kernel
theorem dX3_goes_186 : decode cX3_goes 186 = .ok (.getfield 40, 3) := by decide +kernel
theorem dX3_goes_189 : decode cX3_goes 189 = .ok (.iload_n 3, 1) := by decide +kernel
theorem dX3_goes_190 : decode cX3_goes 190 = .ok (.baload, 1) := by decide +kernel
theorem dX3_goes_191 : decode cX3_goes 191 = .ok (.ifCond .eq 7, 3) := by decide +kernel
theorem dX3_goes_194 : decode cX3_goes 194 = .ok (.iconst 1, 1) := by decide +kernel
theorem dX3_goes_195 : decode cX3_goes 195 = .ok (.goto 4, 3) := by decide +kernel
theorem dX3_goes_198 : decode cX3_goes 198 = .ok (.iconst 0, 1) := by decide +kernel
theorem dX3_goes_199 : decode cX3_goes 199 = .ok (.bastore, 1) := by decide +kernel
theorem dX3_goes_200 : decode cX3_goes 200 = .ok (.goto 25, 3) := by decide +kernel
theorem dX3_goes_203 : decode cX3_goes 203 = .ok (.iconst 0, 1) := by decide +kernel
theorem dX3_goes_204 : decode cX3_goes 204 = .ok (.istore_n 3, 1) := by decide +kernel
theorem dX3_goes_205 : decode cX3_goes 205 = .ok (.iload 6, 2) := by decide +kernel
theorem dX3_goes_207 : decode cX3_goes 207 = .ok (.bipush (-10), 2) := by decide +kernel
theorem dX3_goes_209 : decode cX3_goes 209 = .ok (.iload_n 2, 1) := by decide +kernel
theorem dX3_goes_210 : decode cX3_goes 210 = .ok (.isub, 1) := by decide +kernel
theorem dX3_goes_211 : decode cX3_goes 211 = .ok (.if_icmp .ne 14, 3) := by decide +kernel
theorem dX3_goes_214 : decode cX3_goes 214 = .ok (.aload_n 0, 1) := by decide +kernel
theorem dX3_goes_215 : decode cX3_goes 215 = .ok (.getfield 40, 3) := by decide +kernel
theorem dX3_goes_218 : decode cX3_goes 218 = .ok (.iconst 0, 1) := by decide +kernel
theorem dX3_goes_219 : decode cX3_goes 219 = .ok (.baload, 1) := by decide +kernel
theorem dX3_goes_220 : decode cX3_goes 220 = .ok (.ifCond .eq 5, 3) := by decide +kernel
theorem dX3_goes_223 : decode cX3_goes 223 = .ok (.iconst 1, 1) := by decide +kernel
theorem dX3_goes_224 : decode cX3_goes 224 = .ok (.ireturn, 1) := by decide +kernel
theorem dX3_goes_225 : decode cX3_goes 225 = .ok (.iinc 5 1, 3) := by decide +kernel
