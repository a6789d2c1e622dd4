set_option maxRecDepth 100000
theorem dX3_goes_228 : decode cX3_goes 228 = .ok (.goto (-216), 3) := by decide +kernel
theorem dX3_goes_231 : decode cX3_goes 231 = .ok (.iconst 0, 1) := by decide +kernel
theorem dX3_goes_232 : decode cX3_goes 232 = .ok (.ireturn, 1) := by decide +kernel
abbrev cX3_isSo : ByteArray := prog_22_method_38_code
def yX3_isSo : MethodName := ⟨RX3, "isSo", "(II)Z"⟩
theorem dX3_isSo_0 : decode cX3_isSo 0 = .ok (.aload_n 0, 1) := by decide +kernel
theorem dX3_isSo_1 : decode cX3_isSo 1 = .ok (.getfield 31, 3) := by decide +kernel
theorem dX3_isSo_4 : decode cX3_isSo 4 = .ok (.iload_n 1, 1) := by decide +kernel
theorem dX3_isSo_5 : decode cX3_isSo 5 = .ok (.bipush 8, 2) := by decide +kernel
theorem dX3_isSo_7 : decode cX3_isSo 7 = .ok (.irem, 1) := by decide +kernel
theorem dX3_isSo_8 : decode cX3_isSo 8 = .ok (.iaload, 1) := by decide +kernel
theorem dX3_isSo_9 : decode cX3_isSo 9 = .ok (.istore_n 3, 1) := by decide +kernel
theorem dX3_isSo_10 : decode cX3_isSo 10 = .ok (.iload_n 1, 1) := by decide +kernel
theorem dX3_isSo_11 : decode cX3_isSo 11 = .ok (.bipush 32, 2) := by decide +kernel
theorem dX3_isSo_13 : decode cX3_isSo 13 = .ok (.idiv, 1) := by decide +kernel
theorem dX3_isSo_14 : decode cX3_isSo 14 = .ok (.iload_n 2, 1) := by decide +kernel
theorem dX3_isSo_15 : decode cX3_isSo 15 = .ok (.iadd, 1) := by decide +kernel
theorem dX3_isSo_16 : decode cX3_isSo 16 = .ok (.istore 4, 2) := by decide +kernel
theorem dX3_isSo_18 : decode cX3_isSo 18 = .ok (.iload_n 1, 1) := by decide +kernel
theorem dX3_isSo_19 : decode cX3_isSo 19 = .ok (.bipush 8, 2) := by decide +kernel
theorem dX3_isSo_21 : decode cX3_isSo 21 = .ok (.idiv, 1) := by decide +kernel
theorem dX3_isSo_22 : decode cX3_isSo 22 = .ok (.iconst 4, 1) := by decide +kernel
theorem dX3_isSo_23 : decode cX3_isSo 23 = .ok (.irem, 1) := by decide +kernel
theorem dX3_isSo_24 : decode cX3_isSo 24 = .ok (.istore 5, 2) := by decide +kernel
theorem dX3_isSo_26 : decode cX3_isSo 26 = .ok (.iload 5, 2) := by decide +kernel
theorem dX3_isSo_28 : decode cX3_isSo 28 = .ok (.ifCond .ne 17, 3) := by decide +kernel
theorem dX3_isSo_31 : decode cX3_isSo 31 = .ok (.iload_n 3, 1) := by decide +kernel
theorem dX3_isSo_32 : decode cX3_isSo 32 = .ok (.iload 4, 2) := by decide +kernel
theorem dX3_isSo_34 : decode cX3_isSo 34 = .ok (.if_icmp .ge 7, 3) := by decide +kernel
theorem dX3_isSo_37 : decode cX3_isSo 37 = .ok (.iconst 1, 1) := by decide +kernel
theorem dX3_isSo_38 : decode cX3_isSo 38 = .ok (.goto 38, 3) := by decide +kernel
theorem dX3_isSo_41 : decode cX3_isSo 41 = .ok (.iconst 0, 1) := by decide +kernel
theorem dX3_isSo_42 : decode cX3_isSo 42 = .ok (.goto 34, 3) := by decide +kernel
theorem dX3_isSo_45 : decode cX3_isSo 45 = .ok (.iload 5, 2) := by decide +kernel
theorem dX3_isSo_47 : decode cX3_isSo 47 = .ok (.iconst 1, 1) := by decide +kernel
theorem dX3_isSo_48 : decode cX3_isSo 48 = .ok (.if_icmp .ne 17, 3) := by decide +kernel
theorem dX3_isSo_51 : decode cX3_isSo 51 = .ok (.iload_n 3, 1) := by decide +kernel
theorem dX3_isSo_52 : decode cX3_isSo 52 = .ok (.iload 4, 2) := by decide +kernel
theorem dX3_isSo_54 : decode cX3_isSo 54 = .ok (.if_icmp .ne 7, 3) := by decide +kernel
theorem dX3_isSo_57 : decode cX3_isSo 57 = .ok (.iconst 1, 1) := by decide +kernel
theorem dX3_isSo_58 : decode cX3_isSo 58 = .ok (.goto 18, 3) := by decide +kernel
theorem dX3_isSo_61 : decode cX3_isSo 61 = .ok (.iconst 0, 1) := by decide +kernel
theorem dX3_isSo_62 : decode cX3_isSo 62 = .ok (.goto 14, 3) := by decide +kernel
theorem dX3_isSo_65 : decode cX3_isSo 65 = .ok (.iload_n 3, 1) := by decide +kernel
theorem dX3_isSo_66 : decode cX3_isSo 66 = .ok (.iload 4, 2) := by decide +kernel
theorem dX3_isSo_68 : decode cX3_isSo 68 = .ok (.if_icmp .le 7, 3) := by decide +kernel
theorem dX3_isSo_71 : decode cX3_isSo 71 = .ok (.iconst 1, 1) := by decide +kernel
theorem dX3_isSo_72 : decode cX3_isSo 72 = .ok (.goto 4, 3) := by decide +kernel
theorem dX3_isSo_75 : decode cX3_isSo 75 = .ok (.iconst 0, 1) := by decide +kernel
theorem dX3_isSo_76 : decode cX3_isSo 76 = .ok (.ireturn, 1) := by decide +kernel
abbrev cX3_set : ByteArray := prog_22_method_44_code
def yX3_set : MethodName := ⟨RX3, "set", "(II)I"⟩
theorem dX3_set_0 : decode cX3_set 0 = .ok (.iload_n 1, 1) := by decide +kernel
theorem dX3_set_1 : decode cX3_set 1 = .ok (.iconst 0, 1) := by decide +kernel
theorem dX3_set_2 : decode cX3_set 2 = .ok (.iconst 1, 1) := by decide +kernel
theorem dX3_set_3 : decode cX3_set 3 = .ok (.invokestatic 69, 3) := by decide +kernel
theorem dX3_set_6 : decode cX3_set 6 = .ok (.ifCond .ne 5, 3) := by decide +kernel
theorem dX3_set_9 : decode cX3_set 9 = .ok (.iconst (-1), 1) := by decide +kernel
theorem dX3_set_10 : decode cX3_set 10 = .ok (.ireturn, 1) := by decide +kernel
theorem dX3_set_11 : decode cX3_set 11 = .ok (.iload_n 2, 1) := by decide +kernel
theorem dX3_set_12 : decode cX3_set 12 = .ok (.iconst 0, 1) := by decide +kernel
theorem dX3_set_13 : decode cX3_set 13 = .ok (.iload_n 1, 1) := by decide +kernel
theorem dX3_set_14 : decode cX3_set 14 = .ok (.ifCond .ne 7, 3) := by decide +kernel
theorem dX3_set_17 : decode cX3_set 17 = .ok (.iconst 5, 1) := by decide +kernel
theorem dX3_set_18 : decode cX3_set 18 = .ok (.goto 5, 3) := by decide +kernel
theorem dX3_set_21 : decode cX3_set 21 = .ok (.bipush 50, 2) := by decide +kernel
theorem dX3_set_23 : decode cX3_set 23 = .ok (.invokestatic 69, 3) := by decide +kernel
theorem dX3_set_26 : decode cX3_set 26 = .ok (.ifCond .ne 6, 3) := by decide +kernel
theorem dX3_set_29 : decode cX3_set 29 = .ok (.bipush (-2), 2) := by decide +kernel
theorem dX3_set_31 : decode cX3_set 31 = .ok (.ireturn, 1) := by decide +kernel
theorem dX3_set_32 : decode cX3_set 32 = .ok (.aload_n 0, 1) := by decide +kernel
theorem dX3_set_33 : decode cX3_set 33 = .ok (.getfield 7, 3) := by decide +kernel
theorem dX3_set_36 : decode cX3_set 36 = .ok (.iconst 3, 1) := by decide +kernel
theorem dX3_set_37 : decode cX3_set 37 = .ok (.iload_n 1, 1) := by decide +kernel
theorem dX3_set_38 : decode cX3_set 38 = .ok (.iadd, 1) := by decide +kernel
theorem dX3_set_39 : decode cX3_set 39 = .ok (.iaload, 1) := by decide +kernel
theorem dX3_set_40 : decode cX3_set 40 = .ok (.istore_n 3, 1) := by decide +kernel
theorem dX3_set_41 : decode cX3_set 41 = .ok (.aload_n 0, 1) := by decide +kernel
theorem dX3_set_42 : decode cX3_set 42 = .ok (.getfield 7, 3) := by decide +kernel
theorem dX3_set_45 : decode cX3_set 45 = .ok (.iconst 3, 1) := by decide +kernel
theorem dX3_set_46 : decode cX3_set 46 = .ok (.iload_n 1, 1) := by decide +kernel
theorem dX3_set_47 : decode cX3_set 47 = .ok (.iadd, 1) := by decide +kernel
theorem dX3_set_48 : decode cX3_set 48 = .ok (.iload_n 2, 1) := by decide +kernel
theorem dX3_set_49 : decode cX3_set 49 = .ok (.iastore, 1) := by decide +kernel
theorem dX3_set_50 : decode cX3_set 50 = .ok (.iload_n 3, 1) := by decide +kernel
theorem dX3_set_51 : decode cX3_set 51 = .ok (.ireturn, 1) := by decide +kernel
abbrev cX3_tick : ByteArray := prog_22_method_53_code
def yX3_tick : MethodName := ⟨RX3, "tick", "(I)I"⟩
theorem dX3_tick_0 : decode cX3_tick 0 = .ok (.iload_n 1, 1) := by decide +kernel
theorem dX3_tick_1 : decode cX3_tick 1 = .ok (.iconst 1, 1) := by decide +kernel
theorem dX3_tick_2 : decode cX3_tick 2 = .ok (.bipush 30, 2) := by decide +kernel
theorem dX3_tick_4 : decode cX3_tick 4 = .ok (.invokestatic 69, 3) := by decide +kernel
theorem dX3_tick_7 : decode cX3_tick 7 = .ok (.ifCond .ne 6, 3) := by decide +kernel
theorem dX3_tick_10 : decode cX3_tick 10 = .ok (.bipush (-2), 2) := by decide +kernel
theorem dX3_tick_12 : decode cX3_tick 12 = .ok (.ireturn, 1) := by decide +kernel
theorem dX3_tick_13 : decode cX3_tick 13 = .ok (.iconst 0, 1) := by decide +kernel
theorem dX3_tick_14 : decode cX3_tick 14 = .ok (.istore_n 2, 1) := by decide +kernel
theorem dX3_tick_15 : decode cX3_tick 15 = .ok (.iload_n 2, 1) := by decide +kernel
theorem dX3_tick_16 : decode cX3_tick 16 = .ok (.iload_n 1, 1) := by decide +kernel
theorem dX3_tick_17 : decode cX3_tick 17 = .ok (.if_icmp .ge 13, 3) := by decide +kernel
theorem dX3_tick_20 : decode cX3_tick 20 = .ok (.aload_n 0, 1) := by decide +kernel
theorem dX3_tick_21 : decode cX3_tick 21 = .ok (.invokevirtual 230, 3) := by decide +kernel
theorem dX3_tick_24 : decode cX3_tick 24 = .ok (.iinc 2 1, 3) := by decide +kernel
theorem dX3_tick_27 : decode cX3_tick 27 = .ok (.goto (-12), 3) := by decide +kernel
theorem dX3_tick_30 : decode cX3_tick 30 = .ok (.aload_n 0, 1) := by decide +kernel
theorem dX3_tick_31 : decode cX3_tick 31 = .ok (.getfield 7, 3) := by decide +kernel
theorem dX3_tick_34 : decode cX3_tick 34 = .ok (.iconst 2, 1) := by decide +kernel
theorem dX3_tick_35 : decode cX3_tick 35 = .ok (.iaload, 1) := by decide +kernel
theorem dX3_tick_36 : decode cX3_tick 36 = .ok (.ireturn, 1) := by decide +kernel
abbrev cX3_ticks : ByteArray := prog_22_method_52_code
def yX3_ticks : MethodName := ⟨RX3, "ticks", "()V"⟩
theorem dX3_ticks_0 : decode cX3_ticks 0 = .ok (.iconst 0, 1) := by decide +kernel
theorem dX3_ticks_1 : decode cX3_ticks 1 = .ok (.istore_n 1, 1) := by decide +kernel
theorem dX3_ticks_2 : decode cX3_ticks 2 = .ok (.iload_n 1, 1) := by decide +kernel
theorem dX3_ticks_3 : decode cX3_ticks 3 = .ok (.aload_n 0, 1) := by decide +kernel
theorem dX3_ticks_4 : decode cX3_ticks 4 = .ok (.getfield 7, 3) := by decide +kernel
theorem dX3_ticks_7 : decode cX3_ticks 7 = .ok (.iconst 1, 1) := by decide +kernel
theorem dX3_ticks_8 : decode cX3_ticks 8 = .ok (.iaload, 1) := by decide +kernel
theorem dX3_ticks_9 : decode cX3_ticks 9 = .ok (.if_icmp .ge 20, 3) := by decide +kernel
theorem dX3_ticks_12 : decode cX3_ticks 12 = .ok (.aload_n 0, 1) := by decide +kernel
theorem dX3_ticks_13 : decode cX3_ticks 13 = .ok (.getfield 7, 3) := by decide +kernel
theorem dX3_ticks_16 : decode cX3_ticks 16 = .ok (.sipush 226, 3) := by decide +kernel
theorem dX3_ticks_19 : decode cX3_ticks 19 = .ok (.iload_n 1, 1) := by decide +kernel
theorem dX3_ticks_20 : decode cX3_ticks 20 = .ok (.iadd, 1) := by decide +kernel
theorem dX3_ticks_21 : decode cX3_ticks 21 = .ok (.iconst 0, 1) := by decide +kernel
theorem dX3_ticks_22 : decode cX3_ticks 22 = .ok (.iastore, 1) := by decide +kernel
theorem dX3_ticks_23 : decode cX3_ticks 23 = .ok (.iinc 1 1, 3) := by decide +kernel
theorem dX3_ticks_26 : decode cX3_ticks 26 = .ok (.goto (-24), 3) := by decide +kernel
theorem dX3_ticks_29 : decode cX3_ticks 29 = .ok (.iconst 0, 1) := by decide +kernel
theorem dX3_ticks_30 : decode cX3_ticks 30 = .ok (.istore_n 1, 1) := by decide +kernel
theorem dX3_ticks_31 : decode cX3_ticks 31 = .ok (.iload_n 1, 1) := by decide +kernel
theorem dX3_ticks_32 : decode cX3_ticks 32 = .ok (.aload_n 0, 1) := by decide +kernel
theorem dX3_ticks_33 : decode cX3_ticks 33 = .ok (.getfield 7, 3) := by decide +kernel
theorem dX3_ticks_36 : decode cX3_ticks 36 = .ok (.iconst 1, 1) := by decide +kernel
theorem dX3_ticks_37 : decode cX3_ticks 37 = .ok (.iaload, 1) := by decide +kernel
theorem dX3_ticks_38 : decode cX3_ticks 38 = .ok (.if_icmp .ge 28, 3) := by decide +kernel
theorem dX3_ticks_41 : decode cX3_ticks 41 = .ok (.aload_n 0, 1) := by decide +kernel
theorem dX3_ticks_42 : decode cX3_ticks 42 = .ok (.getfield 7, 3) := by decide +kernel
theorem dX3_ticks_45 : decode cX3_ticks 45 = .ok (.sipush 166, 3) := by decide +kernel
theorem dX3_ticks_48 : decode cX3_ticks 48 = .ok (.iload_n 1, 1) := by decide +kernel
theorem dX3_ticks_49 : decode cX3_ticks 49 = .ok (.iadd, 1) := by decide +kernel
theorem dX3_ticks_50 : decode cX3_ticks 50 = .ok (.iaload, 1) := by decide +kernel
theorem dX3_ticks_51 : decode cX3_ticks 51 = .ok (.iconst 1, 1) := by decide +kernel
theorem dX3_ticks_52 : decode cX3_ticks 52 = .ok (.if_icmp .ne 8, 3) := by decide +kernel
theorem dX3_ticks_55 : decode cX3_ticks 55 = .ok (.aload_n 0, 1) := by decide +kernel
theorem dX3_ticks_56 : decode cX3_ticks 56 = .ok (.iload_n 1, 1) := by decide +kernel
theorem dX3_ticks_57 : decode cX3_ticks 57 = .ok (.invokevirtual 224, 3) := by decide +kernel
theorem dX3_ticks_60 : decode cX3_ticks 60 = .ok (.iinc 1 1, 3) := by decide +kernel
theorem dX3_ticks_63 : decode cX3_ticks 63 = .ok (.goto (-32), 3) := by decide +kernel
theorem dX3_ticks_66 : decode cX3_ticks 66 = .ok (.iconst 0, 1) := by decide +kernel
theorem dX3_ticks_67 : decode cX3_ticks 67 = .ok (.istore_n 1, 1) := by decide +kernel
theorem dX3_ticks_68 : decode cX3_ticks 68 = .ok (.iload_n 1, 1) := by decide +kernel
theorem dX3_ticks_69 : decode cX3_ticks 69 = .ok (.aload_n 0, 1) := by decide +kernel
theorem dX3_ticks_70 : decode cX3_ticks 70 = .ok (.getfield 7, 3) := by decide +kernel
theorem dX3_ticks_73 : decode cX3_ticks 73 = .ok (.iconst 1, 1) := by decide +kernel
theorem dX3_ticks_74 : decode cX3_ticks 74 = .ok (.iaload, 1) := by decide +kernel
theorem dX3_ticks_75 : decode cX3_ticks 75 = .ok (.if_icmp .ge 22, 3) := by decide +kernel
theorem dX3_ticks_78 : decode cX3_ticks 78 = .ok (.aload_n 0, 1) := by decide +kernel
theorem dX3_ticks_79 : decode cX3_ticks 79 = .ok (.iload_n 1, 1) := by decide +kernel
theorem dX3_ticks_80 : decode cX3_ticks 80 = .ok (.invokevirtual 80, 3) := by decide +kernel
theorem dX3_ticks_83 : decode cX3_ticks 83 = .ok (.ifCond .eq 8, 3) := by decide +kernel
theorem dX3_ticks_86 : decode cX3_ticks 86 = .ok (.aload_n 0, 1) := by decide +kernel
theorem dX3_ticks_87 : decode cX3_ticks 87 = .ok (.iload_n 1, 1) := by decide +kernel
theorem dX3_ticks_88 : decode cX3_ticks 88 = .ok (.invokevirtual 227, 3) := by decide +kernel
theorem dX3_ticks_91 : decode cX3_ticks 91 = .ok (.iinc 1 1, 3) := by decide +kernel
theorem dX3_ticks_94 : decode cX3_ticks 94 = .ok (.goto (-26), 3) := by decide +kernel
theorem dX3_ticks_97 : decode cX3_ticks 97 = .ok (.iconst 0, 1) := by decide +kernel
theorem dX3_ticks_98 : decode cX3_ticks 98 = .ok (.istore_n 1, 1) := by decide +kernel
theorem dX3_ticks_99 : decode cX3_ticks 99 = .ok (.iload_n 1, 1) := by decide +kernel
theorem dX3_ticks_100 : decode cX3_ticks 100 = .ok (.aload_n 0, 1) := by decide +kernel
theorem dX3_ticks_101 : decode cX3_ticks 101 = .ok (.getfield 7, 3) := by decide +kernel
theorem dX3_ticks_104 : decode cX3_ticks 104 = .ok (.iconst 1, 1) := by decide +kernel
theorem dX3_ticks_105 : decode cX3_ticks 105 = .ok (.iaload, 1) := by decide +kernel
theorem dX3_ticks_106 : decode cX3_ticks 106 = .ok (.if_icmp .ge 97, 3) := by decide +kernel
theorem dX3_ticks_109 : decode cX3_ticks 109 = .ok (.aload_n 0, 1) := by decide +kernel
theorem dX3_ticks_110 : decode cX3_ticks 110 = .ok (.getfield 7, 3) := by decide +kernel
theorem dX3_ticks_113 : decode cX3_ticks 113 = .ok (.iconst 4, 1) := by decide +kernel
theorem dX3_ticks_114 : decode cX3_ticks 114 = .ok (.iaload, 1) := by decide +kernel
theorem dX3_ticks_115 : decode cX3_ticks 115 = .ok (.ifCond .le 43, 3) := by decide +kernel
theorem dX3_ticks_118 : decode cX3_ticks 118 = .ok (.aload_n 0, 1) := by decide +kernel
theorem dX3_ticks_119 : decode cX3_ticks 119 = .ok (.getfield 7, 3) := by decide +kernel
theorem dX3_ticks_122 : decode cX3_ticks 122 = .ok (.iconst 2, 1) := by decide +kernel
theorem dX3_ticks_123 : decode cX3_ticks 123 = .ok (.iaload, 1) := by decide +kernel
theorem dX3_ticks_124 : decode cX3_ticks 124 = .ok (.iconst 1, 1) := by decide +kernel
theorem dX3_ticks_125 : decode cX3_ticks 125 = .ok (.iadd, 1) := by decide +kernel
theorem dX3_ticks_126 : decode cX3_ticks 126 = .ok (.aload_n 0, 1) := by decide +kernel
theorem dX3_ticks_127 : decode cX3_ticks 127 = .ok (.getfield 7, 3) := by decide +kernel
theorem dX3_ticks_130 : decode cX3_ticks 130 = .ok (.iconst 4, 1) := by decide +kernel
theorem dX3_ticks_131 : decode cX3_ticks 131 = .ok (.iaload, 1) := by decide +kernel
theorem dX3_ticks_132 : decode cX3_ticks 132 = .ok (.irem, 1) := by decide +kernel
theorem dX3_ticks_133 : decode cX3_ticks 133 = .ok (.ifCond .ne 25, 3) := by decide +kernel
theorem dX3_ticks_136 : decode cX3_ticks 136 = .ok (.aload_n 0, 1) := by decide +kernel
theorem dX3_ticks_137 : decode cX3_ticks 137 = .ok (.iload_n 1, 1) := by decide +kernel
theorem dX3_ticks_138 : decode cX3_ticks 138 = .ok (.invokevirtual 80, 3) := by decide +kernel
theorem dX3_ticks_141 : decode cX3_ticks 141 = .ok (.ifCond .eq 17, 3) := by decide +kernel
theorem dX3_ticks_144 : decode cX3_ticks 144 = .ok (.aload_n 0, 1) := by decide +kernel
theorem dX3_ticks_145 : decode cX3_ticks 145 = .ok (.iload_n 1, 1) := by decide +kernel
theorem dX3_ticks_146 : decode cX3_ticks 146 = .ok (.invokevirtual 115, 3) := by decide +kernel
theorem dX3_ticks_149 : decode cX3_ticks 149 = .ok (.bipush 10, 2) := by decide +kernel
theorem dX3_ticks_151 : decode cX3_ticks 151 = .ok (.if_icmp .lt 7, 3) := by decide +kernel
theorem dX3_ticks_154 : decode cX3_ticks 154 = .ok (.iconst 1, 1) := by decide +kernel
theorem dX3_ticks_155 : decode cX3_ticks 155 = .ok (.goto 4, 3) := by decide +kernel
theorem dX3_ticks_158 : decode cX3_ticks 158 = .ok (.iconst 0, 1) := by decide +kernel
theorem dX3_ticks_159 : decode cX3_ticks 159 = .ok (.istore_n 2, 1) := by decide +kernel
theorem dX3_ticks_160 : decode cX3_ticks 160 = .ok (.aload_n 0, 1) := by decide +kernel
theorem dX3_ticks_161 : decode cX3_ticks 161 = .ok (.getfield 7, 3) := by decide +kernel
theorem dX3_ticks_164 : decode cX3_ticks 164 = .ok (.sipush 130, 3) := by decide +kernel
theorem dX3_ticks_167 : decode cX3_ticks 167 = .ok (.iload_n 1, 1) := by decide +kernel
theorem dX3_ticks_168 : decode cX3_ticks 168 = .ok (.iadd, 1) := by decide +kernel
theorem dX3_ticks_169 : decode cX3_ticks 169 = .ok (.dup2, 1) := by decide +kernel
theorem dX3_ticks_170 : decode cX3_ticks 170 = .ok (.iaload, 1) := by decide +kernel
theorem dX3_ticks_171 : decode cX3_ticks 171 = .ok (.iload_n 2, 1) := by decide +kernel
theorem dX3_ticks_172 : decode cX3_ticks 172 = .ok (.ifCond .eq 22, 3) := by decide +kernel
theorem dX3_ticks_175 : decode cX3_ticks 175 = .ok (.aload_n 0, 1) := by decide +kernel
theorem dX3_ticks_176 : decode cX3_ticks 176 = .ok (.getfield 7, 3) := by decide +kernel
theorem dX3_ticks_179 : decode cX3_ticks 179 = .ok (.sipush 130, 3) := by decide +kernel
theorem dX3_ticks_182 : decode cX3_ticks 182 = .ok (.iload_n 1, 1) := by decide +kernel
theorem dX3_ticks_183 : decode cX3_ticks 183 = .ok (.iadd, 1) := by decide +kernel
theorem dX3_ticks_184 : decode cX3_ticks 184 = .ok (.iaload, 1) := by decide +kernel
theorem dX3_ticks_185 : decode cX3_ticks 185 = .ok (.bipush 40, 2) := by decide +kernel
theorem dX3_ticks_187 : decode cX3_ticks 187 = .ok (.if_icmp .ge 7, 3) := by decide +kernel
theorem dX3_ticks_190 : decode cX3_ticks 190 = .ok (.iconst 1, 1) := by decide +kernel
theorem dX3_ticks_191 : decode cX3_ticks 191 = .ok (.goto 4, 3) := by decide +kernel
theorem dX3_ticks_194 : decode cX3_ticks 194 = .ok (.iconst 0, 1) := by decide +kernel
theorem dX3_ticks_195 : decode cX3_ticks 195 = .ok (.iadd, 1) := by decide +kernel
theorem dX3_ticks_196 : decode cX3_ticks 196 = .ok (.iastore, 1) := by decide +kernel
theorem dX3_ticks_197 : decode cX3_ticks 197 = .ok (.iinc 1 1, 3) := by decide +kernel
theorem dX3_ticks_200 : decode cX3_ticks 200 = .ok (.goto (-101), 3) := by decide +kernel
theorem dX3_ticks_203 : decode cX3_ticks 203 = .ok (.aload_n 0, 1) := by decide +kernel
theorem dX3_ticks_204 : decode cX3_ticks 204 = .ok (.getfield 7, 3) := by decide +kernel
theorem dX3_ticks_207 : decode cX3_ticks 207 = .ok (.iconst 2, 1) := by decide +kernel
theorem dX3_ticks_208 : decode cX3_ticks 208 = .ok (.dup2, 1) := by decide +kernel
theorem dX3_ticks_209 : decode cX3_ticks 209 = .ok (.iaload, 1) := by decide +kernel
theorem dX3_ticks_210 : decode cX3_ticks 210 = .ok (.iconst 1, 1) := by decide +kernel
theorem dX3_ticks_211 : decode cX3_ticks 211 = .ok (.iadd, 1) := by decide +kernel
theorem dX3_ticks_212 : decode cX3_ticks 212 = .ok (.iastore, 1) := by decide +kernel
theorem dX3_ticks_213 : decode cX3_ticks 213 = .ok (.return_, 1) := by decide +kernel
abbrev cX3_bareTick : ByteArray := prog_22_method_47_code
def yX3_bareTick : MethodName := ⟨RX3, "bareTick", "(I)V"⟩
theorem dX3_bareTick_0 : decode cX3_bareTick 0 = .ok (.aload_n 0, 1) := by decide +kernel
theorem dX3_bareTick_1 : decode cX3_bareTick 1 = .ok (.getfield 7, 3) := by decide +kernel
theorem dX3_bareTick_4 : decode cX3_bareTick 4 = .ok (.sipush 178, 3) := by decide +kernel
theorem dX3_bareTick_7 : decode cX3_bareTick 7 = .ok (.iload_n 1, 1) := by decide +kernel
theorem dX3_bareTick_8 : decode cX3_bareTick 8 = .ok (.iadd, 1) := by decide +kernel
theorem dX3_bareTick_9 : decode cX3_bareTick 9 = .ok (.iaload, 1) := by decide +kernel
theorem dX3_bareTick_10 : decode cX3_bareTick 10 = .ok (.iconst (-1), 1) := by decide +kernel
theorem dX3_bareTick_11 : decode cX3_bareTick 11 = .ok (.if_icmp .ne 40, 3) := by decide +kernel
theorem dX3_bareTick_14 : decode cX3_bareTick 14 = .ok (.aload_n 0, 1) := by decide +kernel
theorem dX3_bareTick_15 : decode cX3_bareTick 15 = .ok (.aload_n 0, 1) := by decide +kernel
theorem dX3_bareTick_16 : decode cX3_bareTick 16 = .ok (.getfield 7, 3) := by decide +kernel
theorem dX3_bareTick_19 : decode cX3_bareTick 19 = .ok (.sipush 142, 3) := by decide +kernel
theorem dX3_bareTick_22 : decode cX3_bareTick 22 = .ok (.iload_n 1, 1) := by decide +kernel
theorem dX3_bareTick_23 : decode cX3_bareTick 23 = .ok (.iadd, 1) := by decide +kernel
theorem dX3_bareTick_24 : decode cX3_bareTick 24 = .ok (.iaload, 1) := by decide +kernel
theorem dX3_bareTick_25 : decode cX3_bareTick 25 = .ok (.aload_n 0, 1) := by decide +kernel
theorem dX3_bareTick_26 : decode cX3_bareTick 26 = .ok (.getfield 7, 3) := by decide +kernel
theorem dX3_bareTick_29 : decode cX3_bareTick 29 = .ok (.sipush 130, 3) := by decide +kernel
theorem dX3_bareTick_32 : decode cX3_bareTick 32 = .ok (.iload_n 1, 1) := by decide +kernel
theorem dX3_bareTick_33 : decode cX3_bareTick 33 = .ok (.iadd, 1) := by decide +kernel
theorem dX3_bareTick_34 : decode cX3_bareTick 34 = .ok (.iaload, 1) := by decide +kernel
theorem dX3_bareTick_35 : decode cX3_bareTick 35 = .ok (.invokevirtual 208, 3) := by decide +kernel
theorem dX3_bareTick_38 : decode cX3_bareTick 38 = .ok (.istore_n 2, 1) := by decide +kernel
theorem dX3_bareTick_39 : decode cX3_bareTick 39 = .ok (.iload_n 2, 1) := by decide +kernel
theorem dX3_bareTick_40 : decode cX3_bareTick 40 = .ok (.iconst (-1), 1) := by decide +kernel
theorem dX3_bareTick_41 : decode cX3_bareTick 41 = .ok (.if_icmp .eq 9, 3) := by decide +kernel
theorem dX3_bareTick_44 : decode cX3_bareTick 44 = .ok (.aload_n 0, 1) := by decide +kernel
theorem dX3_bareTick_45 : decode cX3_bareTick 45 = .ok (.iload_n 1, 1) := by decide +kernel
theorem dX3_bareTick_46 : decode cX3_bareTick 46 = .ok (.iload_n 2, 1) := by decide +kernel
theorem dX3_bareTick_47 : decode cX3_bareTick 47 = .ok (.invokevirtual 211, 3) := by decide +kernel
theorem dX3_bareTick_50 : decode cX3_bareTick 50 = .ok (.return_, 1) := by decide +kernel
theorem dX3_bareTick_51 : decode cX3_bareTick 51 = .ok (.aload_n 0, 1) := by decide +kernel
theorem dX3_bareTick_52 : decode cX3_bareTick 52 = .ok (.getfield 7, 3) := by decide +kernel
theorem dX3_bareTick_55 : decode cX3_bareTick 55 = .ok (.sipush 190, 3) := by decide +kernel
theorem dX3_bareTick_58 : decode cX3_bareTick 58 = .ok (.iload_n 1, 1) := by decide +kernel
theorem dX3_bareTick_59 : decode cX3_bareTick 59 = .ok (.iadd, 1) := by decide +kernel
theorem dX3_bareTick_60 : decode cX3_bareTick 60 = .ok (.dup2, 1) := by decide +kernel
theorem dX3_bareTick_61 : decode cX3_bareTick 61 = .ok (.iaload, 1) := by decide +kernel
theorem dX3_bareTick_62 : decode cX3_bareTick 62 = .ok (.iconst 1, 1) := by decide +kernel
theorem dX3_bareTick_63 : decode cX3_bareTick 63 = .ok (.isub, 1) := by decide +kernel
theorem dX3_bareTick_64 : decode cX3_bareTick 64 = .ok (.iastore, 1) := by decide +kernel
theorem dX3_bareTick_65 : decode cX3_bareTick 65 = .ok (.aload_n 0, 1) := by decide +kernel
theorem dX3_bareTick_66 : decode cX3_bareTick 66 = .ok (.getfield 7, 3) := by decide +kernel
theorem dX3_bareTick_69 : decode cX3_bareTick 69 = .ok (.sipush 190, 3) := by decide +kernel
theorem dX3_bareTick_72 : decode cX3_bareTick 72 = .ok (.iload_n 1, 1) := by decide +kernel
theorem dX3_bareTick_73 : decode cX3_bareTick 73 = .ok (.iadd, 1) := by decide +kernel
theorem dX3_bareTick_74 : decode cX3_bareTick 74 = .ok (.iaload, 1) := by decide +kernel
theorem dX3_bareTick_75 : decode cX3_bareTick 75 = .ok (.ifCond .ne 18, 3) := by decide +kernel
theorem dX3_bareTick_78 : decode cX3_bareTick 78 = .ok (.aload_n 0, 1) := by decide +kernel
theorem dX3_bareTick_79 : decode cX3_bareTick 79 = .ok (.iload_n 1, 1) := by decide +kernel
theorem dX3_bareTick_80 : decode cX3_bareTick 80 = .ok (.aload_n 0, 1) := by decide +kernel
theorem dX3_bareTick_81 : decode cX3_bareTick 81 = .ok (.getfield 7, 3) := by decide +kernel
theorem dX3_bareTick_84 : decode cX3_bareTick 84 = .ok (.sipush 178, 3) := by decide +kernel
theorem dX3_bareTick_87 : decode cX3_bareTick 87 = .ok (.iload_n 1, 1) := by decide +kernel
theorem dX3_bareTick_88 : decode cX3_bareTick 88 = .ok (.iadd, 1) := by decide +kernel
theorem dX3_bareTick_89 : decode cX3_bareTick 89 = .ok (.iaload, 1) := by decide +kernel
theorem dX3_bareTick_90 : decode cX3_bareTick 90 = .ok (.invokevirtual 94, 3) := by decide +kernel
theorem dX3_bareTick_93 : decode cX3_bareTick 93 = .ok (.return_, 1) := by decide +kernel
abbrev cX3_lying : ByteArray := prog_22_method_45_code
def yX3_lying : MethodName := ⟨RX3, "lying", "(II)I"⟩
theorem dX3_lying_0 : decode cX3_lying 0 = .ok (.iconst (-1), 1) := by decide +kernel
theorem dX3_lying_1 : decode cX3_lying 1 = .ok (.istore_n 3, 1) := by decide +kernel
theorem dX3_lying_2 : decode cX3_lying 2 = .ok (.iconst 0, 1) := by decide +kernel
theorem dX3_lying_3 : decode cX3_lying 3 = .ok (.istore 4, 2) := by decide +kernel
theorem dX3_lying_5 : decode cX3_lying 5 = .ok (.iload 4, 2) := by decide +kernel
theorem dX3_lying_7 : decode cX3_lying 7 = .ok (.aload_n 0, 1) := by decide +kernel
theorem dX3_lying_8 : decode cX3_lying 8 = .ok (.getfield 7, 3) := by decide +kernel
theorem dX3_lying_11 : decode cX3_lying 11 = .ok (.iconst 0, 1) := by decide +kernel
theorem dX3_lying_12 : decode cX3_lying 12 = .ok (.iaload, 1) := by decide +kernel
theorem dX3_lying_13 : decode cX3_lying 13 = .ok (.if_icmp .ge 76, 3) := by decide +kernel
theorem dX3_lying_16 : decode cX3_lying 16 = .ok (.aload_n 0, 1) := by decide +kernel
theorem dX3_lying_17 : decode cX3_lying 17 = .ok (.getfield 7, 3) := by decide +kernel
theorem dX3_lying_20 : decode cX3_lying 20 = .ok (.bipush 90, 2) := by decide +kernel
theorem dX3_lying_22 : decode cX3_lying 22 = .ok (.iload 4, 2) := by decide +kernel
theorem dX3_lying_24 : decode cX3_lying 24 = .ok (.iadd, 1) := by decide +kernel
theorem dX3_lying_25 : decode cX3_lying 25 = .ok (.iaload, 1) := by decide +kernel
theorem dX3_lying_26 : decode cX3_lying 26 = .ok (.ifCond .ne 21, 3) := by decide +kernel
theorem dX3_lying_29 : decode cX3_lying 29 = .ok (.aload_n 0, 1) := by decide +kernel
theorem dX3_lying_30 : decode cX3_lying 30 = .ok (.getfield 7, 3) := by decide +kernel
theorem dX3_lying_33 : decode cX3_lying 33 = .ok (.bipush 70, 2) := by decide +kernel
theorem dX3_lying_35 : decode cX3_lying 35 = .ok (.iload 4, 2) := by decide +kernel
theorem dX3_lying_37 : decode cX3_lying 37 = .ok (.iadd, 1) := by decide +kernel
theorem dX3_lying_38 : decode cX3_lying 38 = .ok (.iaload, 1) := by decide +kernel
theorem dX3_lying_39 : decode cX3_lying 39 = .ok (.iload_n 1, 1) := by decide +kernel
theorem dX3_lying_40 : decode cX3_lying 40 = .ok (.if_icmp .ne 7, 3) := by decide +kernel
theorem dX3_lying_43 : decode cX3_lying 43 = .ok (.iconst 1, 1) := by decide +kernel
theorem dX3_lying_44 : decode cX3_lying 44 = .ok (.goto 4, 3) := by decide +kernel
theorem dX3_lying_47 : decode cX3_lying 47 = .ok (.iconst 0, 1) := by decide +kernel
theorem dX3_lying_48 : decode cX3_lying 48 = .ok (.istore 5, 2) := by decide +kernel
theorem dX3_lying_50 : decode cX3_lying 50 = .ok (.iload 5, 2) := by decide +kernel
theorem dX3_lying_52 : decode cX3_lying 52 = .ok (.ifCond .eq 29, 3) := by decide +kernel
theorem dX3_lying_55 : decode cX3_lying 55 = .ok (.iload_n 3, 1) := by decide +kernel
theorem dX3_lying_56 : decode cX3_lying 56 = .ok (.iconst (-1), 1) := by decide +kernel
theorem dX3_lying_57 : decode cX3_lying 57 = .ok (.if_icmp .eq 19, 3) := by decide +kernel
theorem dX3_lying_60 : decode cX3_lying 60 = .ok (.aload_n 0, 1) := by decide +kernel
theorem dX3_lying_61 : decode cX3_lying 61 = .ok (.iload 4, 2) := by decide +kernel
theorem dX3_lying_63 : decode cX3_lying 63 = .ok (.iload_n 2, 1) := by decide +kernel
theorem dX3_lying_64 : decode cX3_lying 64 = .ok (.invokevirtual 84, 3) := by decide +kernel
theorem dX3_lying_67 : decode cX3_lying 67 = .ok (.aload_n 0, 1) := by decide +kernel
theorem dX3_lying_68 : decode cX3_lying 68 = .ok (.iload_n 3, 1) := by decide +kernel
theorem dX3_lying_69 : decode cX3_lying 69 = .ok (.iload_n 2, 1) := by decide +kernel
theorem dX3_lying_70 : decode cX3_lying 70 = .ok (.invokevirtual 84, 3) := by decide +kernel
theorem dX3_lying_73 : decode cX3_lying 73 = .ok (.if_icmp .le 8, 3) := by decide +kernel
theorem dX3_lying_76 : decode cX3_lying 76 = .ok (.iload 4, 2) := by decide +kernel
theorem dX3_lying_78 : decode cX3_lying 78 = .ok (.goto 4, 3) := by decide +kernel
theorem dX3_lying_81 : decode cX3_lying 81 = .ok (.iload_n 3, 1) := by decide +kernel
theorem dX3_lying_82 : decode cX3_lying 82 = .ok (.istore_n 3, 1) := by decide +kernel
theorem dX3_lying_83 : decode cX3_lying 83 = .ok (.iinc 4 1, 3) := by decide +kernel
theorem dX3_lying_86 : decode cX3_lying 86 = .ok (.goto (-81), 3) := by decide +kernel
theorem dX3_lying_89 : decode cX3_lying 89 = .ok (.iload_n 3, 1) := by decide +kernel
theorem dX3_lying_90 : decode cX3_lying 90 = .ok (.ireturn, 1) := by decide +kernel
abbrev cX3_keeps : ByteArray := prog_22_method_46_code
def yX3_keeps : MethodName := ⟨RX3, "keeps", "(II)V"⟩
theorem dX3_keeps_0 : decode cX3_keeps 0 = .ok (.aload_n 0, 1) := by decide +kernel
theorem dX3_keeps_1 : decode cX3_keeps 1 = .ok (.getfield 7, 3) := by decide +kernel
theorem dX3_keeps_4 : decode cX3_keeps 4 = .ok (.iconst 3, 1) := by decide +kernel
theorem dX3_keeps_5 : decode cX3_keeps 5 = .ok (.iaload, 1) := by decide +kernel
theorem dX3_keeps_6 : decode cX3_keeps 6 = .ok (.ifCond .ne 10, 3) := by decide +kernel
theorem dX3_keeps_9 : decode cX3_keeps 9 = .ok (.aload_n 0, 1) := by decide +kernel
theorem dX3_keeps_10 : decode cX3_keeps 10 = .ok (.iload_n 1, 1) := by decide +kernel
theorem dX3_keeps_11 : decode cX3_keeps 11 = .ok (.iload_n 2, 1) := by decide +kernel
theorem dX3_keeps_12 : decode cX3_keeps 12 = .ok (.invokevirtual 94, 3) := by decide +kernel
theorem dX3_keeps_15 : decode cX3_keeps 15 = .ok (.return_, 1) := by decide +kernel
theorem dX3_keeps_16 : decode cX3_keeps 16 = .ok (.aload_n 0, 1) := by decide +kernel
theorem dX3_keeps_17 : decode cX3_keeps 17 = .ok (.getfield 7, 3) := by decide +kernel
theorem dX3_keeps_20 : decode cX3_keeps 20 = .ok (.sipush 178, 3) := by decide +kernel
theorem dX3_keeps_23 : decode cX3_keeps 23 = .ok (.iload_n 1, 1) := by decide +kernel
theorem dX3_keeps_24 : decode cX3_keeps 24 = .ok (.iadd, 1) := by decide +kernel
theorem dX3_keeps_25 : decode cX3_keeps 25 = .ok (.iload_n 2, 1) := by decide +kernel
theorem dX3_keeps_26 : decode cX3_keeps 26 = .ok (.iastore, 1) := by decide +kernel
theorem dX3_keeps_27 : decode cX3_keeps 27 = .ok (.aload_n 0, 1) := by decide +kernel
theorem dX3_keeps_28 : decode cX3_keeps 28 = .ok (.getfield 7, 3) := by decide +kernel
theorem dX3_keeps_31 : decode cX3_keeps 31 = .ok (.sipush 190, 3) := by decide +kernel
theorem dX3_keeps_34 : decode cX3_keeps 34 = .ok (.iload_n 1, 1) := by decide +kernel
theorem dX3_keeps_35 : decode cX3_keeps 35 = .ok (.iadd, 1) := by decide +kernel
theorem dX3_keeps_36 : decode cX3_keeps 36 = .ok (.aload_n 0, 1) := by decide +kernel
theorem dX3_keeps_37 : decode cX3_keeps 37 = .ok (.getfield 7, 3) := by decide +kernel
theorem dX3_keeps_40 : decode cX3_keeps 40 = .ok (.iconst 3, 1) := by decide +kernel
theorem dX3_keeps_41 : decode cX3_keeps 41 = .ok (.iaload, 1) := by decide +kernel
theorem dX3_keeps_42 : decode cX3_keeps 42 = .ok (.iastore, 1) := by decide +kernel
theorem dX3_keeps_43 : decode cX3_keeps 43 = .ok (.aload_n 0, 1) := by decide +kernel
theorem dX3_keeps_44 : decode cX3_keeps 44 = .ok (.getfield 7, 3) := by decide +kernel
theorem dX3_keeps_47 : decode cX3_keeps 47 = .ok (.bipush 90, 2) := by decide +kernel
theorem dX3_keeps_49 : decode cX3_keeps 49 = .ok (.iload_n 2, 1) := by decide +kernel
theorem dX3_keeps_50 : decode cX3_keeps 50 = .ok (.iadd, 1) := by decide +kernel
theorem dX3_keeps_51 : decode cX3_keeps 51 = .ok (.iconst 2, 1) := by decide +kernel
theorem dX3_keeps_52 : decode cX3_keeps 52 = .ok (.iastore, 1) := by decide +kernel
theorem dX3_keeps_53 : decode cX3_keeps 53 = .ok (.aload_n 0, 1) := by decide +kernel
theorem dX3_keeps_54 : decode cX3_keeps 54 = .ok (.getfield 7, 3) := by decide +kernel
theorem dX3_keeps_57 : decode cX3_keeps 57 = .ok (.bipush 110, 2) := by decide +kernel
theorem dX3_keeps_59 : decode cX3_keeps 59 = .ok (.iload_n 2, 1) := by decide +kernel
theorem dX3_keeps_60 : decode cX3_keeps 60 = .ok (.iadd, 1) := by decide +kernel
theorem dX3_keeps_61 : decode cX3_keeps 61 = .ok (.iload_n 1, 1) := by decide +kernel
theorem dX3_keeps_62 : decode cX3_keeps 62 = .ok (.iastore, 1) := by decide +kernel
theorem dX3_keeps_63 : decode cX3_keeps 63 = .ok (.return_, 1) := by decide +kernel
abbrev cX3_housedTick : ByteArray := prog_22_method_51_code
def yX3_housedTick : MethodName := ⟨RX3, "housedTick", "(I)V"⟩
theorem dX3_housedTick_0 : decode cX3_housedTick 0 = .ok (.aload_n 0, 1) := by decide +kernel
theorem dX3_housedTick_1 : decode cX3_housedTick 1 = .ok (.aload_n 0, 1) := by decide +kernel
theorem dX3_housedTick_2 : decode cX3_housedTick 2 = .ok (.getfield 7, 3) := by decide +kernel
theorem dX3_housedTick_5 : decode cX3_housedTick 5 = .ok (.sipush 142, 3) := by decide +kernel
theorem dX3_housedTick_8 : decode cX3_housedTick 8 = .ok (.iload_n 1, 1) := by decide +kernel
theorem dX3_housedTick_9 : decode cX3_housedTick 9 = .ok (.iadd, 1) := by decide +kernel
theorem dX3_housedTick_10 : decode cX3_housedTick 10 = .ok (.iaload, 1) := by decide +kernel
theorem dX3_housedTick_11 : decode cX3_housedTick 11 = .ok (.aload_n 0, 1) := by decide +kernel
theorem dX3_housedTick_12 : decode cX3_housedTick 12 = .ok (.getfield 7, 3) := by decide +kernel
theorem dX3_housedTick_15 : decode cX3_housedTick 15 = .ok (.sipush 130, 3) := by decide +kernel
theorem dX3_housedTick_18 : decode cX3_housedTick 18 = .ok (.iload_n 1, 1) := by decide +kernel
theorem dX3_housedTick_19 : decode cX3_housedTick 19 = .ok (.iadd, 1) := by decide +kernel
theorem dX3_housedTick_20 : decode cX3_housedTick 20 = .ok (.iaload, 1) := by decide +kernel
theorem dX3_housedTick_21 : decode cX3_housedTick 21 = .ok (.invokevirtual 208, 3) := by decide +kernel
theorem dX3_housedTick_24 : decode cX3_housedTick 24 = .ok (.istore_n 2, 1) := by decide +kernel
theorem dX3_housedTick_25 : decode cX3_housedTick 25 = .ok (.iload_n 2, 1) := by decide +kernel
theorem dX3_housedTick_26 : decode cX3_housedTick 26 = .ok (.iconst (-1), 1) := by decide +kernel
theorem dX3_housedTick_27 : decode cX3_housedTick 27 = .ok (.if_icmp .ne 7, 3) := by decide +kernel
theorem dX3_housedTick_30 : decode cX3_housedTick 30 = .ok (.iconst 0, 1) := by decide +kernel
theorem dX3_housedTick_31 : decode cX3_housedTick 31 = .ok (.goto 18, 3) := by decide +kernel
theorem dX3_housedTick_34 : decode cX3_housedTick 34 = .ok (.aload_n 0, 1) := by decide +kernel
theorem dX3_housedTick_35 : decode cX3_housedTick 35 = .ok (.iload_n 2, 1) := by decide +kernel
theorem dX3_housedTick_36 : decode cX3_housedTick 36 = .ok (.aload_n 0, 1) := by decide +kernel
theorem dX3_housedTick_37 : decode cX3_housedTick 37 = .ok (.getfield 7, 3) := by decide +kernel
theorem dX3_housedTick_40 : decode cX3_housedTick 40 = .ok (.sipush 130, 3) := by decide +kernel
theorem dX3_housedTick_43 : decode cX3_housedTick 43 = .ok (.iload_n 1, 1) := by decide +kernel
theorem dX3_housedTick_44 : decode cX3_housedTick 44 = .ok (.iadd, 1) := by decide +kernel
theorem dX3_housedTick_45 : decode cX3_housedTick 45 = .ok (.iaload, 1) := by decide +kernel
theorem dX3_housedTick_46 : decode cX3_housedTick 46 = .ok (.invokevirtual 84, 3) := by decide +kernel
theorem dX3_housedTick_49 : decode cX3_housedTick 49 = .ok (.istore_n 3, 1) := by decide +kernel
theorem dX3_housedTick_50 : decode cX3_housedTick 50 = .ok (.iload_n 2, 1) := by decide +kernel
theorem dX3_housedTick_51 : decode cX3_housedTick 51 = .ok (.iconst (-1), 1) := by decide +kernel
theorem dX3_housedTick_52 : decode cX3_housedTick 52 = .ok (.if_icmp .eq 56, 3) := by decide +kernel
theorem dX3_housedTick_55 : decode cX3_housedTick 55 = .ok (.iload_n 3, 1) := by decide +kernel
theorem dX3_housedTick_56 : decode cX3_housedTick 56 = .ok (.aload_n 0, 1) := by decide +kernel
theorem dX3_housedTick_57 : decode cX3_housedTick 57 = .ok (.iload_n 1, 1) := by decide +kernel
theorem dX3_housedTick_58 : decode cX3_housedTick 58 = .ok (.invokevirtual 115, 3) := by decide +kernel
theorem dX3_housedTick_61 : decode cX3_housedTick 61 = .ok (.if_icmp .le 47, 3) := by decide +kernel
theorem dX3_housedTick_64 : decode cX3_housedTick 64 = .ok (.aload_n 0, 1) := by decide +kernel
theorem dX3_housedTick_65 : decode cX3_housedTick 65 = .ok (.iload_n 1, 1) := by decide +kernel
theorem dX3_housedTick_66 : decode cX3_housedTick 66 = .ok (.iconst 0, 1) := by decide +kernel
theorem dX3_housedTick_67 : decode cX3_housedTick 67 = .ok (.iload_n 3, 1) := by decide +kernel
theorem dX3_housedTick_68 : decode cX3_housedTick 68 = .ok (.iconst 0, 1) := by decide +kernel
theorem dX3_housedTick_69 : decode cX3_housedTick 69 = .ok (.iconst 0, 1) := by decide +kernel
theorem dX3_housedTick_70 : decode cX3_housedTick 70 = .ok (.invokevirtual 214, 3) := by decide +kernel
theorem dX3_housedTick_73 : decode cX3_housedTick 73 = .ok (.ifCond .eq 35, 3) := by decide +kernel
theorem dX3_housedTick_76 : decode cX3_housedTick 76 = .ok (.aload_n 0, 1) := by decide +kernel
theorem dX3_housedTick_77 : decode cX3_housedTick 77 = .ok (.aload_n 0, 1) := by decide +kernel
theorem dX3_housedTick_78 : decode cX3_housedTick 78 = .ok (.getfield 7, 3) := by decide +kernel
theorem dX3_housedTick_81 : decode cX3_housedTick 81 = .ok (.sipush 178, 3) := by decide +kernel
theorem dX3_housedTick_84 : decode cX3_housedTick 84 = .ok (.iload_n 1, 1) := by decide +kernel
theorem dX3_housedTick_85 : decode cX3_housedTick 85 = .ok (.iadd, 1) := by decide +kernel
theorem dX3_housedTick_86 : decode cX3_housedTick 86 = .ok (.iaload, 1) := by decide +kernel
theorem dX3_housedTick_87 : decode cX3_housedTick 87 = .ok (.invokevirtual 118, 3) := by decide +kernel
theorem dX3_housedTick_90 : decode cX3_housedTick 90 = .ok (.aload_n 0, 1) := by decide +kernel
theorem dX3_housedTick_91 : decode cX3_housedTick 91 = .ok (.getfield 7, 3) := by decide +kernel
theorem dX3_housedTick_94 : decode cX3_housedTick 94 = .ok (.sipush 166, 3) := by decide +kernel
theorem dX3_housedTick_97 : decode cX3_housedTick 97 = .ok (.iload_n 1, 1) := by decide +kernel
theorem dX3_housedTick_98 : decode cX3_housedTick 98 = .ok (.iadd, 1) := by decide +kernel
theorem dX3_housedTick_99 : decode cX3_housedTick 99 = .ok (.iconst 1, 1) := by decide +kernel
theorem dX3_housedTick_100 : decode cX3_housedTick 100 = .ok (.iastore, 1) := by decide +kernel
theorem dX3_housedTick_101 : decode cX3_housedTick 101 = .ok (.aload_n 0, 1) := by decide +kernel
theorem dX3_housedTick_102 : decode cX3_housedTick 102 = .ok (.iload_n 1, 1) := by decide +kernel
theorem dX3_housedTick_103 : decode cX3_housedTick 103 = .ok (.iload_n 2, 1) := by decide +kernel
theorem dX3_housedTick_104 : decode cX3_housedTick 104 = .ok (.invokevirtual 211, 3) := by decide +kernel
theorem dX3_housedTick_107 : decode cX3_housedTick 107 = .ok (.return_, 1) := by decide +kernel
theorem dX3_housedTick_108 : decode cX3_housedTick 108 = .ok (.aload_n 0, 1) := by decide +kernel
theorem dX3_housedTick_109 : decode cX3_housedTick 109 = .ok (.iload_n 1, 1) := by decide +kernel
theorem dX3_housedTick_110 : decode cX3_housedTick 110 = .ok (.invokevirtual 218, 3) := by decide +kernel
theorem dX3_housedTick_113 : decode cX3_housedTick 113 = .ok (.istore 4, 2) := by decide +kernel
theorem dX3_housedTick_115 : decode cX3_housedTick 115 = .ok (.iload 4, 2) := by decide +kernel
theorem dX3_housedTick_117 : decode cX3_housedTick 117 = .ok (.iconst (-1), 1) := by decide +kernel
theorem dX3_housedTick_118 : decode cX3_housedTick 118 = .ok (.if_icmp .eq 31, 3) := by decide +kernel
theorem dX3_housedTick_121 : decode cX3_housedTick 121 = .ok (.aload_n 0, 1) := by decide +kernel
theorem dX3_housedTick_122 : decode cX3_housedTick 122 = .ok (.getfield 7, 3) := by decide +kernel
theorem dX3_housedTick_125 : decode cX3_housedTick 125 = .ok (.sipush 214, 3) := by decide +kernel
theorem dX3_housedTick_128 : decode cX3_housedTick 128 = .ok (.iload_n 1, 1) := by decide +kernel
theorem dX3_housedTick_129 : decode cX3_housedTick 129 = .ok (.iadd, 1) := by decide +kernel
theorem dX3_housedTick_130 : decode cX3_housedTick 130 = .ok (.iaload, 1) := by decide +kernel
theorem dX3_housedTick_131 : decode cX3_housedTick 131 = .ok (.iload 4, 2) := by decide +kernel
theorem dX3_housedTick_133 : decode cX3_housedTick 133 = .ok (.if_icmp .ne 16, 3) := by decide +kernel
theorem dX3_housedTick_136 : decode cX3_housedTick 136 = .ok (.aload_n 0, 1) := by decide +kernel
theorem dX3_housedTick_137 : decode cX3_housedTick 137 = .ok (.getfield 7, 3) := by decide +kernel
theorem dX3_housedTick_140 : decode cX3_housedTick 140 = .ok (.sipush 202, 3) := by decide +kernel
theorem dX3_housedTick_143 : decode cX3_housedTick 143 = .ok (.iload_n 1, 1) := by decide +kernel
theorem dX3_housedTick_144 : decode cX3_housedTick 144 = .ok (.iadd, 1) := by decide +kernel
theorem dX3_housedTick_145 : decode cX3_housedTick 145 = .ok (.iaload, 1) := by decide +kernel
theorem dX3_housedTick_146 : decode cX3_housedTick 146 = .ok (.goto 4, 3) := by decide +kernel
theorem dX3_housedTick_149 : decode cX3_housedTick 149 = .ok (.iconst 0, 1) := by decide +kernel
theorem dX3_housedTick_150 : decode cX3_housedTick 150 = .ok (.istore 5, 2) := by decide +kernel
theorem dX3_housedTick_152 : decode cX3_housedTick 152 = .ok (.iload 4, 2) := by decide +kernel
theorem dX3_housedTick_154 : decode cX3_housedTick 154 = .ok (.iconst (-1), 1) := by decide +kernel
theorem dX3_housedTick_155 : decode cX3_housedTick 155 = .ok (.if_icmp .eq 60, 3) := by decide +kernel
theorem dX3_housedTick_158 : decode cX3_housedTick 158 = .ok (.aload_n 0, 1) := by decide +kernel
theorem dX3_housedTick_159 : decode cX3_housedTick 159 = .ok (.iload_n 1, 1) := by decide +kernel
theorem dX3_housedTick_160 : decode cX3_housedTick 160 = .ok (.iconst 1, 1) := by decide +kernel
theorem dX3_housedTick_161 : decode cX3_housedTick 161 = .ok (.aload_n 0, 1) := by decide +kernel
theorem dX3_housedTick_162 : decode cX3_housedTick 162 = .ok (.aload_n 0, 1) := by decide +kernel
theorem dX3_housedTick_163 : decode cX3_housedTick 163 = .ok (.getfield 7, 3) := by decide +kernel
theorem dX3_housedTick_166 : decode cX3_housedTick 166 = .ok (.sipush 178, 3) := by decide +kernel
theorem dX3_housedTick_169 : decode cX3_housedTick 169 = .ok (.iload 4, 2) := by decide +kernel
theorem dX3_housedTick_171 : decode cX3_housedTick 171 = .ok (.iadd, 1) := by decide +kernel
theorem dX3_housedTick_172 : decode cX3_housedTick 172 = .ok (.iaload, 1) := by decide +kernel
theorem dX3_housedTick_173 : decode cX3_housedTick 173 = .ok (.aload_n 0, 1) := by decide +kernel
theorem dX3_housedTick_174 : decode cX3_housedTick 174 = .ok (.getfield 7, 3) := by decide +kernel
theorem dX3_housedTick_177 : decode cX3_housedTick 177 = .ok (.sipush 130, 3) := by decide +kernel
theorem dX3_housedTick_180 : decode cX3_housedTick 180 = .ok (.iload_n 1, 1) := by decide +kernel
theorem dX3_housedTick_181 : decode cX3_housedTick 181 = .ok (.iadd, 1) := by decide +kernel
theorem dX3_housedTick_182 : decode cX3_housedTick 182 = .ok (.iaload, 1) := by decide +kernel
theorem dX3_housedTick_183 : decode cX3_housedTick 183 = .ok (.invokevirtual 84, 3) := by decide +kernel
theorem dX3_housedTick_186 : decode cX3_housedTick 186 = .ok (.aload_n 0, 1) := by decide +kernel
theorem dX3_housedTick_187 : decode cX3_housedTick 187 = .ok (.getfield 7, 3) := by decide +kernel
theorem dX3_housedTick_190 : decode cX3_housedTick 190 = .ok (.sipush 130, 3) := by decide +kernel
theorem dX3_housedTick_193 : decode cX3_housedTick 193 = .ok (.iload 4, 2) := by decide +kernel
theorem dX3_housedTick_195 : decode cX3_housedTick 195 = .ok (.iadd, 1) := by decide +kernel
theorem dX3_housedTick_196 : decode cX3_housedTick 196 = .ok (.iaload, 1) := by decide +kernel
theorem dX3_housedTick_197 : decode cX3_housedTick 197 = .ok (.iload 5, 2) := by decide +kernel
theorem dX3_housedTick_199 : decode cX3_housedTick 199 = .ok (.invokevirtual 214, 3) := by decide +kernel
theorem dX3_housedTick_202 : decode cX3_housedTick 202 = .ok (.ifCond .eq 13, 3) := by decide +kernel
theorem dX3_housedTick_205 : decode cX3_housedTick 205 = .ok (.aload_n 0, 1) := by decide +kernel
theorem dX3_housedTick_206 : decode cX3_housedTick 206 = .ok (.iload_n 1, 1) := by decide +kernel
theorem dX3_housedTick_207 : decode cX3_housedTick 207 = .ok (.iload 4, 2) := by decide +kernel
theorem dX3_housedTick_209 : decode cX3_housedTick 209 = .ok (.invokevirtual 221, 3) := by decide +kernel
theorem dX3_housedTick_212 : decode cX3_housedTick 212 = .ok (.goto 31, 3) := by decide +kernel
theorem dX3_housedTick_215 : decode cX3_housedTick 215 = .ok (.iload_n 2, 1) := by decide +kernel
theorem dX3_housedTick_216 : decode cX3_housedTick 216 = .ok (.iconst (-1), 1) := by decide +kernel
theorem dX3_housedTick_217 : decode cX3_housedTick 217 = .ok (.if_icmp .eq 26, 3) := by decide +kernel
theorem dX3_housedTick_220 : decode cX3_housedTick 220 = .ok (.aload_n 0, 1) := by decide +kernel
theorem dX3_housedTick_221 : decode cX3_housedTick 221 = .ok (.iload_n 1, 1) := by decide +kernel
theorem dX3_housedTick_222 : decode cX3_housedTick 222 = .ok (.iconst 3, 1) := by decide +kernel
theorem dX3_housedTick_223 : decode cX3_housedTick 223 = .ok (.iload_n 3, 1) := by decide +kernel
theorem dX3_housedTick_224 : decode cX3_housedTick 224 = .ok (.iconst 0, 1) := by decide +kernel
theorem dX3_housedTick_225 : decode cX3_housedTick 225 = .ok (.iconst 0, 1) := by decide +kernel
theorem dX3_housedTick_226 : decode cX3_housedTick 226 = .ok (.invokevirtual 214, 3) := by decide +kernel
theorem dX3_housedTick_229 : decode cX3_housedTick 229 = .ok (.ifCond .eq 14, 3) := by decide +kernel
theorem dX3_housedTick_232 : decode cX3_housedTick 232 = .ok (.aload_n 0, 1) := by decide +kernel
theorem dX3_housedTick_233 : decode cX3_housedTick 233 = .ok (.getfield 7, 3) := by decide +kernel
theorem dX3_housedTick_236 : decode cX3_housedTick 236 = .ok (.sipush 226, 3) := by decide +kernel
theorem dX3_housedTick_239 : decode cX3_housedTick 239 = .ok (.iload_n 1, 1) := by decide +kernel
theorem dX3_housedTick_240 : decode cX3_housedTick 240 = .ok (.iadd, 1) := by decide +kernel
theorem dX3_housedTick_241 : decode cX3_housedTick 241 = .ok (.iconst 1, 1) := by decide +kernel
theorem dX3_housedTick_242 : decode cX3_housedTick 242 = .ok (.iastore, 1) := by decide +kernel
theorem dX3_housedTick_243 : decode cX3_housedTick 243 = .ok (.return_, 1) := by decide +kernel
abbrev cX3_asks : ByteArray := prog_22_method_49_code
def yX3_asks : MethodName := ⟨RX3, "asks", "(IIIII)Z"⟩
theorem dX3_asks_0 : decode cX3_asks 0 = .ok (.aload_n 0, 1) := by decide +kernel
theorem dX3_asks_1 : decode cX3_asks 1 = .ok (.aload_n 0, 1) := by decide +kernel
theorem dX3_asks_2 : decode cX3_asks 2 = .ok (.getfield 7, 3) := by decide +kernel
theorem dX3_asks_5 : decode cX3_asks 5 = .ok (.sipush 154, 3) := by decide +kernel
theorem dX3_asks_8 : decode cX3_asks 8 = .ok (.iload_n 1, 1) := by decide +kernel
theorem dX3_asks_9 : decode cX3_asks 9 = .ok (.iadd, 1) := by decide +kernel
theorem dX3_asks_10 : decode cX3_asks 10 = .ok (.iaload, 1) := by decide +kernel
theorem dX3_asks_11 : decode cX3_asks 11 = .ok (.iload_n 2, 1) := by decide +kernel
theorem dX3_asks_12 : decode cX3_asks 12 = .ok (.aload_n 0, 1) := by decide +kernel
theorem dX3_asks_13 : decode cX3_asks 13 = .ok (.iload_n 1, 1) := by decide +kernel
theorem dX3_asks_14 : decode cX3_asks 14 = .ok (.invokevirtual 115, 3) := by decide +kernel
theorem dX3_asks_17 : decode cX3_asks 17 = .ok (.bipush 50, 2) := by decide +kernel
theorem dX3_asks_19 : decode cX3_asks 19 = .ok (.iadd, 1) := by decide +kernel
theorem dX3_asks_20 : decode cX3_asks 20 = .ok (.iload_n 3, 1) := by decide +kernel
theorem dX3_asks_21 : decode cX3_asks 21 = .ok (.bipush 50, 2) := by decide +kernel
theorem dX3_asks_23 : decode cX3_asks 23 = .ok (.iadd, 1) := by decide +kernel
theorem dX3_asks_24 : decode cX3_asks 24 = .ok (.aload_n 0, 1) := by decide +kernel
theorem dX3_asks_25 : decode cX3_asks 25 = .ok (.getfield 7, 3) := by decide +kernel
theorem dX3_asks_28 : decode cX3_asks 28 = .ok (.sipush 130, 3) := by decide +kernel
theorem dX3_asks_31 : decode cX3_asks 31 = .ok (.iload_n 1, 1) := by decide +kernel
theorem dX3_asks_32 : decode cX3_asks 32 = .ok (.iadd, 1) := by decide +kernel
theorem dX3_asks_33 : decode cX3_asks 33 = .ok (.iaload, 1) := by decide +kernel
theorem dX3_asks_34 : decode cX3_asks 34 = .ok (.iload 4, 2) := by decide +kernel
theorem dX3_asks_36 : decode cX3_asks 36 = .ok (.iload 5, 2) := by decide +kernel
theorem dX3_asks_38 : decode cX3_asks 38 = .ok (.invokevirtual 204, 3) := by decide +kernel
theorem dX3_asks_41 : decode cX3_asks 41 = .ok (.ireturn, 1) := by decide +kernel
abbrev cX3_otherOf : ByteArray := prog_22_method_48_code
def yX3_otherOf : MethodName := ⟨RX3, "otherOf", "(I)I"⟩
theorem dX3_otherOf_0 : decode cX3_otherOf 0 = .ok (.iconst (-1), 1) := by decide +kernel
theorem dX3_otherOf_1 : decode cX3_otherOf 1 = .ok (.istore_n 2, 1) := by decide +kernel
theorem dX3_otherOf_2 : decode cX3_otherOf 2 = .ok (.aload_n 0, 1) := by decide +kernel
theorem dX3_otherOf_3 : decode cX3_otherOf 3 = .ok (.iload_n 1, 1) := by decide +kernel
theorem dX3_otherOf_4 : decode cX3_otherOf 4 = .ok (.invokevirtual 115, 3) := by decide +kernel
theorem dX3_otherOf_7 : decode cX3_otherOf 7 = .ok (.istore_n 3, 1) := by decide +kernel
theorem dX3_otherOf_8 : decode cX3_otherOf 8 = .ok (.iconst 0, 1) := by decide +kernel
theorem dX3_otherOf_9 : decode cX3_otherOf 9 = .ok (.istore 4, 2) := by decide +kernel
theorem dX3_otherOf_11 : decode cX3_otherOf 11 = .ok (.iload 4, 2) := by decide +kernel
theorem dX3_otherOf_13 : decode cX3_otherOf 13 = .ok (.aload_n 0, 1) := by decide +kernel
theorem dX3_otherOf_14 : decode cX3_otherOf 14 = .ok (.getfield 7, 3) := by decide +kernel
theorem dX3_otherOf_17 : decode cX3_otherOf 17 = .ok (.iconst 1, 1) := by decide +kernel
theorem dX3_otherOf_18 : decode cX3_otherOf 18 = .ok (.iaload, 1) := by decide +kernel
theorem dX3_otherOf_19 : decode cX3_otherOf 19 = .ok (.if_icmp .ge 106, 3) := by decide +kernel
theorem dX3_otherOf_22 : decode cX3_otherOf 22 = .ok (.iload 4, 2) := by decide +kernel
theorem dX3_otherOf_24 : decode cX3_otherOf 24 = .ok (.iload_n 1, 1) := by decide +kernel
theorem dX3_otherOf_25 : decode cX3_otherOf 25 = .ok (.if_icmp .eq 94, 3) := by decide +kernel
theorem dX3_otherOf_28 : decode cX3_otherOf 28 = .ok (.aload_n 0, 1) := by decide +kernel
theorem dX3_otherOf_29 : decode cX3_otherOf 29 = .ok (.iload 4, 2) := by decide +kernel
theorem dX3_otherOf_31 : decode cX3_otherOf 31 = .ok (.invokevirtual 80, 3) := by decide +kernel
theorem dX3_otherOf_34 : decode cX3_otherOf 34 = .ok (.ifCond .eq 85, 3) := by decide +kernel
theorem dX3_otherOf_37 : decode cX3_otherOf 37 = .ok (.aload_n 0, 1) := by decide +kernel
theorem dX3_otherOf_38 : decode cX3_otherOf 38 = .ok (.getfield 7, 3) := by decide +kernel
theorem dX3_otherOf_41 : decode cX3_otherOf 41 = .ok (.sipush 142, 3) := by decide +kernel
theorem dX3_otherOf_44 : decode cX3_otherOf 44 = .ok (.iload 4, 2) := by decide +kernel
theorem dX3_otherOf_46 : decode cX3_otherOf 46 = .ok (.iadd, 1) := by decide +kernel
theorem dX3_otherOf_47 : decode cX3_otherOf 47 = .ok (.iaload, 1) := by decide +kernel
theorem dX3_otherOf_48 : decode cX3_otherOf 48 = .ok (.aload_n 0, 1) := by decide +kernel
theorem dX3_otherOf_49 : decode cX3_otherOf 49 = .ok (.getfield 7, 3) := by decide +kernel
theorem dX3_otherOf_52 : decode cX3_otherOf 52 = .ok (.sipush 142, 3) := by decide +kernel
theorem dX3_otherOf_55 : decode cX3_otherOf 55 = .ok (.iload_n 1, 1) := by decide +kernel
theorem dX3_otherOf_56 : decode cX3_otherOf 56 = .ok (.iadd, 1) := by decide +kernel
theorem dX3_otherOf_57 : decode cX3_otherOf 57 = .ok (.iaload, 1) := by decide +kernel
theorem dX3_otherOf_58 : decode cX3_otherOf 58 = .ok (.if_icmp .ne 61, 3) := by decide +kernel
theorem dX3_otherOf_61 : decode cX3_otherOf 61 = .ok (.aload_n 0, 1) := by decide +kernel
theorem dX3_otherOf_62 : decode cX3_otherOf 62 = .ok (.aload_n 0, 1) := by decide +kernel
theorem dX3_otherOf_63 : decode cX3_otherOf 63 = .ok (.getfield 7, 3) := by decide +kernel
theorem dX3_otherOf_66 : decode cX3_otherOf 66 = .ok (.sipush 178, 3) := by decide +kernel
theorem dX3_otherOf_69 : decode cX3_otherOf 69 = .ok (.iload 4, 2) := by decide +kernel
theorem dX3_otherOf_71 : decode cX3_otherOf 71 = .ok (.iadd, 1) := by decide +kernel
theorem dX3_otherOf_72 : decode cX3_otherOf 72 = .ok (.iaload, 1) := by decide +kernel
theorem dX3_otherOf_73 : decode cX3_otherOf 73 = .ok (.aload_n 0, 1) := by decide +kernel
theorem dX3_otherOf_74 : decode cX3_otherOf 74 = .ok (.getfield 7, 3) := by decide +kernel
theorem dX3_otherOf_77 : decode cX3_otherOf 77 = .ok (.sipush 130, 3) := by decide +kernel
theorem dX3_otherOf_80 : decode cX3_otherOf 80 = .ok (.iload_n 1, 1) := by decide +kernel
theorem dX3_otherOf_81 : decode cX3_otherOf 81 = .ok (.iadd, 1) := by decide +kernel
theorem dX3_otherOf_82 : decode cX3_otherOf 82 = .ok (.iaload, 1) := by decide +kernel
theorem dX3_otherOf_83 : decode cX3_otherOf 83 = .ok (.invokevirtual 84, 3) := by decide +kernel
theorem dX3_otherOf_86 : decode cX3_otherOf 86 = .ok (.iload_n 3, 1) := by decide +kernel
theorem dX3_otherOf_87 : decode cX3_otherOf 87 = .ok (.if_icmp .le 32, 3) := by decide +kernel
theorem dX3_otherOf_90 : decode cX3_otherOf 90 = .ok (.iload 4, 2) := by decide +kernel
theorem dX3_otherOf_92 : decode cX3_otherOf 92 = .ok (.istore_n 2, 1) := by decide +kernel
theorem dX3_otherOf_93 : decode cX3_otherOf 93 = .ok (.aload_n 0, 1) := by decide +kernel
theorem dX3_otherOf_94 : decode cX3_otherOf 94 = .ok (.aload_n 0, 1) := by decide +kernel
theorem dX3_otherOf_95 : decode cX3_otherOf 95 = .ok (.getfield 7, 3) := by decide +kernel
theorem dX3_otherOf_98 : decode cX3_otherOf 98 = .ok (.sipush 178, 3) := by decide +kernel
theorem dX3_otherOf_101 : decode cX3_otherOf 101 = .ok (.iload 4, 2) := by decide +kernel
theorem dX3_otherOf_103 : decode cX3_otherOf 103 = .ok (.iadd, 1) := by decide +kernel
theorem dX3_otherOf_104 : decode cX3_otherOf 104 = .ok (.iaload, 1) := by decide +kernel
theorem dX3_otherOf_105 : decode cX3_otherOf 105 = .ok (.aload_n 0, 1) := by decide +kernel
theorem dX3_otherOf_106 : decode cX3_otherOf 106 = .ok (.getfield 7, 3) := by decide +kernel
theorem dX3_otherOf_109 : decode cX3_otherOf 109 = .ok (.sipush 130, 3) := by decide +kernel
theorem dX3_otherOf_112 : decode cX3_otherOf 112 = .ok (.iload_n 1, 1) := by decide +kernel
theorem dX3_otherOf_113 : decode cX3_otherOf 113 = .ok (.iadd, 1) := by decide +kernel
theorem dX3_otherOf_114 : decode cX3_otherOf 114 = .ok (.iaload, 1) := by decide +kernel
theorem dX3_otherOf_115 : decode cX3_otherOf 115 = .ok (.invokevirtual 84, 3) := by decide +kernel
theorem dX3_otherOf_118 : decode cX3_otherOf 118 = .ok (.istore_n 3, 1) := by decide +kernel
theorem dX3_otherOf_119 : decode cX3_otherOf 119 = .ok (.iinc 4 1, 3) := by decide +kernel
theorem dX3_otherOf_122 : decode cX3_otherOf 122 = .ok (.goto (-111), 3) := by decide +kernel
theorem dX3_otherOf_125 : decode cX3_otherOf 125 = .ok (.iload_n 2, 1) := by decide +kernel
theorem dX3_otherOf_126 : decode cX3_otherOf 126 = .ok (.ireturn, 1) := by decide +kernel
abbrev cX3_knocks : ByteArray := prog_22_method_50_code
def yX3_knocks : MethodName := ⟨RX3, "knocks", "(II)V"⟩
theorem dX3_knocks_0 : decode cX3_knocks 0 = .ok (.aload_n 0, 1) := by decide +kernel
theorem dX3_knocks_1 : decode cX3_knocks 1 = .ok (.getfield 7, 3) := by decide +kernel
theorem dX3_knocks_4 : decode cX3_knocks 4 = .ok (.sipush 202, 3) := by decide +kernel
theorem dX3_knocks_7 : decode cX3_knocks 7 = .ok (.iload_n 1, 1) := by decide +kernel
theorem dX3_knocks_8 : decode cX3_knocks 8 = .ok (.iadd, 1) := by decide +kernel
theorem dX3_knocks_9 : decode cX3_knocks 9 = .ok (.aload_n 0, 1) := by decide +kernel
theorem dX3_knocks_10 : decode cX3_knocks 10 = .ok (.getfield 7, 3) := by decide +kernel
theorem dX3_knocks_13 : decode cX3_knocks 13 = .ok (.sipush 214, 3) := by decide +kernel
theorem dX3_knocks_16 : decode cX3_knocks 16 = .ok (.iload_n 1, 1) := by decide +kernel
theorem dX3_knocks_17 : decode cX3_knocks 17 = .ok (.iadd, 1) := by decide +kernel
theorem dX3_knocks_18 : decode cX3_knocks 18 = .ok (.iaload, 1) := by decide +kernel
theorem dX3_knocks_19 : decode cX3_knocks 19 = .ok (.iload_n 2, 1) := by decide +kernel
theorem dX3_knocks_20 : decode cX3_knocks 20 = .ok (.if_icmp .ne 18, 3) := by decide +kernel
theorem dX3_knocks_23 : decode cX3_knocks 23 = .ok (.aload_n 0, 1) := by decide +kernel
theorem dX3_knocks_24 : decode cX3_knocks 24 = .ok (.getfield 7, 3) := by decide +kernel
theorem dX3_knocks_27 : decode cX3_knocks 27 = .ok (.sipush 202, 3) := by decide +kernel
theorem dX3_knocks_30 : decode cX3_knocks 30 = .ok (.iload_n 1, 1) := by decide +kernel
theorem dX3_knocks_31 : decode cX3_knocks 31 = .ok (.iadd, 1) := by decide +kernel
theorem dX3_knocks_32 : decode cX3_knocks 32 = .ok (.iaload, 1) := by decide +kernel
theorem dX3_knocks_33 : decode cX3_knocks 33 = .ok (.iconst 1, 1) := by decide +kernel
theorem dX3_knocks_34 : decode cX3_knocks 34 = .ok (.iadd, 1) := by decide +kernel
theorem dX3_knocks_35 : decode cX3_knocks 35 = .ok (.goto 4, 3) := by decide +kernel
theorem dX3_knocks_38 : decode cX3_knocks 38 = .ok (.iconst 1, 1) := by decide +kernel
theorem dX3_knocks_39 : decode cX3_knocks 39 = .ok (.iastore, 1) := by decide +kernel
theorem dX3_knocks_40 : decode cX3_knocks 40 = .ok (.aload_n 0, 1) := by decide +kernel
theorem dX3_knocks_41 : decode cX3_knocks 41 = .ok (.getfield 7, 3) := by decide +kernel
theorem dX3_knocks_44 : decode cX3_knocks 44 = .ok (.sipush 214, 3) := by decide +kernel
theorem dX3_knocks_47 : decode cX3_knocks 47 = .ok (.iload_n 1, 1) := by decide +kernel
theorem dX3_knocks_48 : decode cX3_knocks 48 = .ok (.iadd, 1) := by decide +kernel
theorem dX3_knocks_49 : decode cX3_knocks 49 = .ok (.iload_n 2, 1) := by decide +kernel
theorem dX3_knocks_50 : decode cX3_knocks 50 = .ok (.iastore, 1) := by decide +kernel
theorem dX3_knocks_51 : decode cX3_knocks 51 = .ok (.aload_n 0, 1) := by decide +kernel
theorem dX3_knocks_52 : decode cX3_knocks 52 = .ok (.getfield 7, 3) := by decide +kernel
theorem dX3_knocks_55 : decode cX3_knocks 55 = .ok (.sipush 226, 3) := by decide +kernel
theorem dX3_knocks_58 : decode cX3_knocks 58 = .ok (.iload_n 1, 1) := by decide +kernel
theorem dX3_knocks_59 : decode cX3_knocks 59 = .ok (.iadd, 1) := by decide +kernel
theorem dX3_knocks_60 : decode cX3_knocks 60 = .ok (.iconst 2, 1) := by decide +kernel
theorem dX3_knocks_61 : decode cX3_knocks 61 = .ok (.iastore, 1) := by decide +kernel
theorem dX3_knocks_62 : decode cX3_knocks 62 = .ok (.aload_n 0, 1) := by decide +kernel
theorem dX3_knocks_63 : decode cX3_knocks 63 = .ok (.iload_n 2, 1) := by decide +kernel
theorem dX3_knocks_64 : decode cX3_knocks 64 = .ok (.iconst 2, 1) := by decide +kernel
theorem dX3_knocks_65 : decode cX3_knocks 65 = .ok (.aload_n 0, 1) := by decide +kernel
theorem dX3_knocks_66 : decode cX3_knocks 66 = .ok (.aload_n 0, 1) := by decide +kernel
theorem dX3_knocks_67 : decode cX3_knocks 67 = .ok (.getfield 7, 3) := by decide +kernel
theorem dX3_knocks_70 : decode cX3_knocks 70 = .ok (.sipush 178, 3) := by decide +kernel
theorem dX3_knocks_73 : decode cX3_knocks 73 = .ok (.iload_n 1, 1) := by decide +kernel
theorem dX3_knocks_74 : decode cX3_knocks 74 = .ok (.iadd, 1) := by decide +kernel
theorem dX3_knocks_75 : decode cX3_knocks 75 = .ok (.iaload, 1) := by decide +kernel
theorem dX3_knocks_76 : decode cX3_knocks 76 = .ok (.aload_n 0, 1) := by decide +kernel
theorem dX3_knocks_77 : decode cX3_knocks 77 = .ok (.getfield 7, 3) := by decide +kernel
theorem dX3_knocks_80 : decode cX3_knocks 80 = .ok (.sipush 130, 3) := by decide +kernel
theorem dX3_knocks_83 : decode cX3_knocks 83 = .ok (.iload_n 2, 1) := by decide +kernel
theorem dX3_knocks_84 : decode cX3_knocks 84 = .ok (.iadd, 1) := by decide +kernel
theorem dX3_knocks_85 : decode cX3_knocks 85 = .ok (.iaload, 1) := by decide +kernel
theorem dX3_knocks_86 : decode cX3_knocks 86 = .ok (.invokevirtual 84, 3) := by decide +kernel
theorem dX3_knocks_89 : decode cX3_knocks 89 = .ok (.aload_n 0, 1) := by decide +kernel
theorem dX3_knocks_90 : decode cX3_knocks 90 = .ok (.getfield 7, 3) := by decide +kernel
theorem dX3_knocks_93 : decode cX3_knocks 93 = .ok (.sipush 130, 3) := by decide +kernel
theorem dX3_knocks_96 : decode cX3_knocks 96 = .ok (.iload_n 1, 1) := by decide +kernel
theorem dX3_knocks_97 : decode cX3_knocks 97 = .ok (.iadd, 1) := by decide +kernel
theorem dX3_knocks_98 : decode cX3_knocks 98 = .ok (.iaload, 1) := by decide +kernel
theorem dX3_knocks_99 : decode cX3_knocks 99 = .ok (.aload_n 0, 1) := by decide +kernel
theorem dX3_knocks_100 : decode cX3_knocks 100 = .ok (.getfield 7, 3) := by decide +kernel
theorem dX3_knocks_103 : decode cX3_knocks 103 = .ok (.sipush 202, 3) := by decide +kernel
theorem dX3_knocks_106 : decode cX3_knocks 106 = .ok (.iload_n 1, 1) := by decide +kernel
theorem dX3_knocks_107 : decode cX3_knocks 107 = .ok (.iadd, 1) := by decide +kernel
theorem dX3_knocks_108 : decode cX3_knocks 108 = .ok (.iaload, 1) := by decide +kernel
theorem dX3_knocks_109 : decode cX3_knocks 109 = .ok (.invokevirtual 214, 3) := by decide +kernel
theorem dX3_knocks_112 : decode cX3_knocks 112 = .ok (.ifCond .eq 135, 3) := by decide +kernel
theorem dX3_knocks_115 : decode cX3_knocks 115 = .ok (.aload_n 0, 1) := by decide +kernel
theorem dX3_knocks_116 : decode cX3_knocks 116 = .ok (.getfield 7, 3) := by decide +kernel
theorem dX3_knocks_119 : decode cX3_knocks 119 = .ok (.sipush 178, 3) := by decide +kernel
theorem dX3_knocks_122 : decode cX3_knocks 122 = .ok (.iload_n 1, 1) := by decide +kernel
theorem dX3_knocks_123 : decode cX3_knocks 123 = .ok (.iadd, 1) := by decide +kernel
theorem dX3_knocks_124 : decode cX3_knocks 124 = .ok (.iaload, 1) := by decide +kernel
theorem dX3_knocks_125 : decode cX3_knocks 125 = .ok (.istore_n 3, 1) := by decide +kernel
theorem dX3_knocks_126 : decode cX3_knocks 126 = .ok (.aload_n 0, 1) := by decide +kernel
theorem dX3_knocks_127 : decode cX3_knocks 127 = .ok (.getfield 7, 3) := by decide +kernel
theorem dX3_knocks_130 : decode cX3_knocks 130 = .ok (.sipush 178, 3) := by decide +kernel
theorem dX3_knocks_133 : decode cX3_knocks 133 = .ok (.iload_n 2, 1) := by decide +kernel
theorem dX3_knocks_134 : decode cX3_knocks 134 = .ok (.iadd, 1) := by decide +kernel
theorem dX3_knocks_135 : decode cX3_knocks 135 = .ok (.iaload, 1) := by decide +kernel
theorem dX3_knocks_136 : decode cX3_knocks 136 = .ok (.istore 4, 2) := by decide +kernel
theorem dX3_knocks_138 : decode cX3_knocks 138 = .ok (.aload_n 0, 1) := by decide +kernel
theorem dX3_knocks_139 : decode cX3_knocks 139 = .ok (.iload 4, 2) := by decide +kernel
theorem dX3_knocks_141 : decode cX3_knocks 141 = .ok (.aload_n 0, 1) := by decide +kernel
theorem dX3_knocks_142 : decode cX3_knocks 142 = .ok (.getfield 7, 3) := by decide +kernel
theorem dX3_knocks_145 : decode cX3_knocks 145 = .ok (.sipush 130, 3) := by decide +kernel
theorem dX3_knocks_148 : decode cX3_knocks 148 = .ok (.iload_n 1, 1) := by decide +kernel
theorem dX3_knocks_149 : decode cX3_knocks 149 = .ok (.iadd, 1) := by decide +kernel
theorem dX3_knocks_150 : decode cX3_knocks 150 = .ok (.iaload, 1) := by decide +kernel
theorem dX3_knocks_151 : decode cX3_knocks 151 = .ok (.invokevirtual 84, 3) := by decide +kernel
theorem dX3_knocks_154 : decode cX3_knocks 154 = .ok (.aload_n 0, 1) := by decide +kernel
theorem dX3_knocks_155 : decode cX3_knocks 155 = .ok (.iload_n 1, 1) := by decide +kernel
theorem dX3_knocks_156 : decode cX3_knocks 156 = .ok (.invokevirtual 115, 3) := by decide +kernel
theorem dX3_knocks_159 : decode cX3_knocks 159 = .ok (.if_icmp .le 7, 3) := by decide +kernel
theorem dX3_knocks_162 : decode cX3_knocks 162 = .ok (.iconst 1, 1) := by decide +kernel
theorem dX3_knocks_163 : decode cX3_knocks 163 = .ok (.goto 4, 3) := by decide +kernel
theorem dX3_knocks_166 : decode cX3_knocks 166 = .ok (.iconst 0, 1) := by decide +kernel
theorem dX3_knocks_167 : decode cX3_knocks 167 = .ok (.aload_n 0, 1) := by decide +kernel
theorem dX3_knocks_168 : decode cX3_knocks 168 = .ok (.iload_n 3, 1) := by decide +kernel
theorem dX3_knocks_169 : decode cX3_knocks 169 = .ok (.aload_n 0, 1) := by decide +kernel
theorem dX3_knocks_170 : decode cX3_knocks 170 = .ok (.getfield 7, 3) := by decide +kernel
theorem dX3_knocks_173 : decode cX3_knocks 173 = .ok (.sipush 130, 3) := by decide +kernel
theorem dX3_knocks_176 : decode cX3_knocks 176 = .ok (.iload_n 2, 1) := by decide +kernel
theorem dX3_knocks_177 : decode cX3_knocks 177 = .ok (.iadd, 1) := by decide +kernel
theorem dX3_knocks_178 : decode cX3_knocks 178 = .ok (.iaload, 1) := by decide +kernel
theorem dX3_knocks_179 : decode cX3_knocks 179 = .ok (.invokevirtual 84, 3) := by decide +kernel
theorem dX3_knocks_182 : decode cX3_knocks 182 = .ok (.aload_n 0, 1) := by decide +kernel
theorem dX3_knocks_183 : decode cX3_knocks 183 = .ok (.iload_n 2, 1) := by decide +kernel
theorem dX3_knocks_184 : decode cX3_knocks 184 = .ok (.invokevirtual 115, 3) := by decide +kernel
theorem dX3_knocks_187 : decode cX3_knocks 187 = .ok (.if_icmp .le 7, 3) := by decide +kernel
theorem dX3_knocks_190 : decode cX3_knocks 190 = .ok (.iconst 1, 1) := by decide +kernel
theorem dX3_knocks_191 : decode cX3_knocks 191 = .ok (.goto 4, 3) := by decide +kernel
theorem dX3_knocks_194 : decode cX3_knocks 194 = .ok (.iconst 0, 1) := by decide +kernel
theorem dX3_knocks_195 : decode cX3_knocks 195 = .ok (.iadd, 1) := by decide +kernel
theorem dX3_knocks_196 : decode cX3_knocks 196 = .ok (.istore 5, 2) := by decide +kernel
theorem dX3_knocks_198 : decode cX3_knocks 198 = .ok (.aload_n 0, 1) := by decide +kernel
theorem dX3_knocks_199 : decode cX3_knocks 199 = .ok (.getfield 7, 3) := by decide +kernel
theorem dX3_knocks_202 : decode cX3_knocks 202 = .ok (.bipush 7, 2) := by decide +kernel
theorem dX3_knocks_204 : decode cX3_knocks 204 = .ok (.iload 5, 2) := by decide +kernel
theorem dX3_knocks_206 : decode cX3_knocks 206 = .ok (.isub, 1) := by decide +kernel
theorem dX3_knocks_207 : decode cX3_knocks 207 = .ok (.dup2, 1) := by decide +kernel
theorem dX3_knocks_208 : decode cX3_knocks 208 = .ok (.iaload, 1) := by decide +kernel
theorem dX3_knocks_209 : decode cX3_knocks 209 = .ok (.iconst 1, 1) := by decide +kernel
theorem dX3_knocks_210 : decode cX3_knocks 210 = .ok (.iadd, 1) := by decide +kernel
theorem dX3_knocks_211 : decode cX3_knocks 211 = .ok (.iastore, 1) := by decide +kernel
theorem dX3_knocks_212 : decode cX3_knocks 212 = .ok (.aload_n 0, 1) := by decide +kernel
theorem dX3_knocks_213 : decode cX3_knocks 213 = .ok (.iload_n 1, 1) := by decide +kernel
theorem dX3_knocks_214 : decode cX3_knocks 214 = .ok (.iload 4, 2) := by decide +kernel
theorem dX3_knocks_216 : decode cX3_knocks 216 = .ok (.invokevirtual 94, 3) := by decide +kernel
theorem dX3_knocks_219 : decode cX3_knocks 219 = .ok (.aload_n 0, 1) := by decide +kernel
theorem dX3_knocks_220 : decode cX3_knocks 220 = .ok (.iload_n 2, 1) := by decide +kernel
theorem dX3_knocks_221 : decode cX3_knocks 221 = .ok (.iload_n 3, 1) := by decide +kernel
theorem dX3_knocks_222 : decode cX3_knocks 222 = .ok (.invokevirtual 94, 3) := by decide +kernel
theorem dX3_knocks_225 : decode cX3_knocks 225 = .ok (.aload_n 0, 1) := by decide +kernel
theorem dX3_knocks_226 : decode cX3_knocks 226 = .ok (.getfield 7, 3) := by decide +kernel
theorem dX3_knocks_229 : decode cX3_knocks 229 = .ok (.sipush 202, 3) := by decide +kernel
theorem dX3_knocks_232 : decode cX3_knocks 232 = .ok (.iload_n 1, 1) := by decide +kernel
theorem dX3_knocks_233 : decode cX3_knocks 233 = .ok (.iadd, 1) := by decide +kernel
theorem dX3_knocks_234 : decode cX3_knocks 234 = .ok (.iconst 0, 1) := by decide +kernel
theorem dX3_knocks_235 : decode cX3_knocks 235 = .ok (.iastore, 1) := by decide +kernel
theorem dX3_knocks_236 : decode cX3_knocks 236 = .ok (.aload_n 0, 1) := by decide +kernel
theorem dX3_knocks_237 : decode cX3_knocks 237 = .ok (.getfield 7, 3) := by decide +kernel
theorem dX3_knocks_240 : decode cX3_knocks 240 = .ok (.sipush 214, 3) := by decide +kernel
theorem dX3_knocks_243 : decode cX3_knocks 243 = .ok (.iload_n 1, 1) := by decide +kernel
theorem dX3_knocks_244 : decode cX3_knocks 244 = .ok (.iadd, 1) := by decide +kernel
theorem dX3_knocks_245 : decode cX3_knocks 245 = .ok (.iconst (-1), 1) := by decide +kernel
theorem dX3_knocks_246 : decode cX3_knocks 246 = .ok (.iastore, 1) := by decide +kernel
theorem dX3_knocks_247 : decode cX3_knocks 247 = .ok (.return_, 1) := by decide +kernel
abbrev cX3_row : ByteArray := prog_22_method_54_code
def yX3_row : MethodName := ⟨RX3, "row", "(II)I"⟩
theorem dX3_row_0 : decode cX3_row 0 = .ok (.iload_n 1, 1) := by decide +kernel
theorem dX3_row_1 : decode cX3_row 1 = .ok (.invokestatic 88, 3) := by decide +kernel
theorem dX3_row_4 : decode cX3_row 4 = .ok (.ifCond .eq 8, 3) := by decide +kernel
theorem dX3_row_7 : decode cX3_row 7 = .ok (.iload_n 2, 1) := by decide +kernel
theorem dX3_row_8 : decode cX3_row 8 = .ok (.iconst (-1), 1) := by decide +kernel
theorem dX3_row_9 : decode cX3_row 9 = .ok (.if_icmp .ge 5, 3) := by decide +kernel
theorem dX3_row_12 : decode cX3_row 12 = .ok (.iconst (-1), 1) := by decide +kernel
theorem dX3_row_13 : decode cX3_row 13 = .ok (.ireturn, 1) := by decide +kernel
theorem dX3_row_14 : decode cX3_row 14 = .ok (.iconst 0, 1) := by decide +kernel
theorem dX3_row_15 : decode cX3_row 15 = .ok (.istore_n 3, 1) := by decide +kernel
theorem dX3_row_16 : decode cX3_row 16 = .ok (.iconst (-1), 1) := by decide +kernel
theorem dX3_row_17 : decode cX3_row 17 = .ok (.istore 4, 2) := by decide +kernel
theorem dX3_row_19 : decode cX3_row 19 = .ok (.iconst 0, 1) := by decide +kernel
theorem dX3_row_20 : decode cX3_row 20 = .ok (.istore 5, 2) := by decide +kernel
theorem dX3_row_22 : decode cX3_row 22 = .ok (.iload 5, 2) := by decide +kernel
theorem dX3_row_24 : decode cX3_row 24 = .ok (.aload_n 0, 1) := by decide +kernel
theorem dX3_row_25 : decode cX3_row 25 = .ok (.getfield 7, 3) := by decide +kernel
theorem dX3_row_28 : decode cX3_row 28 = .ok (.iconst 1, 1) := by decide +kernel
theorem dX3_row_29 : decode cX3_row 29 = .ok (.iaload, 1) := by decide +kernel
theorem dX3_row_30 : decode cX3_row 30 = .ok (.if_icmp .ge 126, 3) := by decide +kernel
theorem dX3_row_33 : decode cX3_row 33 = .ok (.aload_n 0, 1) := by decide +kernel
theorem dX3_row_34 : decode cX3_row 34 = .ok (.iload 5, 2) := by decide +kernel
theorem dX3_row_36 : decode cX3_row 36 = .ok (.invokevirtual 104, 3) := by decide +kernel
theorem dX3_row_39 : decode cX3_row 39 = .ok (.ifCond .eq 111, 3) := by decide +kernel
theorem dX3_row_42 : decode cX3_row 42 = .ok (.aload_n 0, 1) := by decide +kernel
theorem dX3_row_43 : decode cX3_row 43 = .ok (.getfield 7, 3) := by decide +kernel
theorem dX3_row_46 : decode cX3_row 46 = .ok (.sipush 142, 3) := by decide +kernel
theorem dX3_row_49 : decode cX3_row 49 = .ok (.iload 5, 2) := by decide +kernel
theorem dX3_row_51 : decode cX3_row 51 = .ok (.iadd, 1) := by decide +kernel
theorem dX3_row_52 : decode cX3_row 52 = .ok (.iaload, 1) := by decide +kernel
theorem dX3_row_53 : decode cX3_row 53 = .ok (.iload_n 1, 1) := by decide +kernel
theorem dX3_row_54 : decode cX3_row 54 = .ok (.if_icmp .ne 96, 3) := by decide +kernel
theorem dX3_row_57 : decode cX3_row 57 = .ok (.iconst 0, 1) := by decide +kernel
theorem dX3_row_58 : decode cX3_row 58 = .ok (.istore 6, 2) := by decide +kernel
theorem dX3_row_60 : decode cX3_row 60 = .ok (.iconst 0, 1) := by decide +kernel
theorem dX3_row_61 : decode cX3_row 61 = .ok (.istore 7, 2) := by decide +kernel
theorem dX3_row_63 : decode cX3_row 63 = .ok (.iload 7, 2) := by decide +kernel
theorem dX3_row_65 : decode cX3_row 65 = .ok (.aload_n 0, 1) := by decide +kernel
theorem dX3_row_66 : decode cX3_row 66 = .ok (.getfield 7, 3) := by decide +kernel
theorem dX3_row_69 : decode cX3_row 69 = .ok (.iconst 1, 1) := by decide +kernel
theorem dX3_row_70 : decode cX3_row 70 = .ok (.iaload, 1) := by decide +kernel
theorem dX3_row_71 : decode cX3_row 71 = .ok (.if_icmp .ge 61, 3) := by decide +kernel
theorem dX3_row_74 : decode cX3_row 74 = .ok (.iload 6, 2) := by decide +kernel
theorem dX3_row_76 : decode cX3_row 76 = .ok (.iload 7, 2) := by decide +kernel
theorem dX3_row_78 : decode cX3_row 78 = .ok (.iload 5, 2) := by decide +kernel
theorem dX3_row_80 : decode cX3_row 80 = .ok (.if_icmp .eq 42, 3) := by decide +kernel
theorem dX3_row_83 : decode cX3_row 83 = .ok (.aload_n 0, 1) := by decide +kernel
theorem dX3_row_84 : decode cX3_row 84 = .ok (.iload 7, 2) := by decide +kernel
theorem dX3_row_86 : decode cX3_row 86 = .ok (.invokevirtual 104, 3) := by decide +kernel
theorem dX3_row_89 : decode cX3_row 89 = .ok (.ifCond .eq 33, 3) := by decide +kernel
theorem dX3_row_92 : decode cX3_row 92 = .ok (.aload_n 0, 1) := by decide +kernel
theorem dX3_row_93 : decode cX3_row 93 = .ok (.getfield 7, 3) := by decide +kernel
theorem dX3_row_96 : decode cX3_row 96 = .ok (.sipush 142, 3) := by decide +kernel
theorem dX3_row_99 : decode cX3_row 99 = .ok (.iload 7, 2) := by decide +kernel
theorem dX3_row_101 : decode cX3_row 101 = .ok (.iadd, 1) := by decide +kernel
theorem dX3_row_102 : decode cX3_row 102 = .ok (.iaload, 1) := by decide +kernel
theorem dX3_row_103 : decode cX3_row 103 = .ok (.iload_n 1, 1) := by decide +kernel
theorem dX3_row_104 : decode cX3_row 104 = .ok (.if_icmp .ne 18, 3) := by decide +kernel
theorem dX3_row_107 : decode cX3_row 107 = .ok (.aload_n 0, 1) := by decide +kernel
theorem dX3_row_108 : decode cX3_row 108 = .ok (.iload 7, 2) := by decide +kernel
theorem dX3_row_110 : decode cX3_row 110 = .ok (.iload 5, 2) := by decide +kernel
theorem dX3_row_112 : decode cX3_row 112 = .ok (.invokevirtual 107, 3) := by decide +kernel
theorem dX3_row_115 : decode cX3_row 115 = .ok (.ifCond .eq 7, 3) := by decide +kernel
theorem dX3_row_118 : decode cX3_row 118 = .ok (.iconst 1, 1) := by decide +kernel
theorem dX3_row_119 : decode cX3_row 119 = .ok (.goto 4, 3) := by decide +kernel
theorem dX3_row_122 : decode cX3_row 122 = .ok (.iconst 0, 1) := by decide +kernel
theorem dX3_row_123 : decode cX3_row 123 = .ok (.iadd, 1) := by decide +kernel
theorem dX3_row_124 : decode cX3_row 124 = .ok (.istore 6, 2) := by decide +kernel
theorem dX3_row_126 : decode cX3_row 126 = .ok (.iinc 7 1, 3) := by decide +kernel
theorem dX3_row_129 : decode cX3_row 129 = .ok (.goto (-66), 3) := by decide +kernel
theorem dX3_row_132 : decode cX3_row 132 = .ok (.iload 6, 2) := by decide +kernel
theorem dX3_row_134 : decode cX3_row 134 = .ok (.iload_n 2, 1) := by decide +kernel
theorem dX3_row_135 : decode cX3_row 135 = .ok (.if_icmp .ne 8, 3) := by decide +kernel
theorem dX3_row_138 : decode cX3_row 138 = .ok (.iload 5, 2) := by decide +kernel
theorem dX3_row_140 : decode cX3_row 140 = .ok (.goto 5, 3) := by decide +kernel
theorem dX3_row_143 : decode cX3_row 143 = .ok (.iload 4, 2) := by decide +kernel
theorem dX3_row_145 : decode cX3_row 145 = .ok (.istore 4, 2) := by decide +kernel
theorem dX3_row_147 : decode cX3_row 147 = .ok (.iinc 3 1, 3) := by decide +kernel
theorem dX3_row_150 : decode cX3_row 150 = .ok (.iinc 5 1, 3) := by decide +kernel
theorem dX3_row_153 : decode cX3_row 153 = .ok (.goto (-131), 3) := by decide +kernel
theorem dX3_row_156 : decode cX3_row 156 = .ok (.iload_n 2, 1) := by decide +kernel
theorem dX3_row_157 : decode cX3_row 157 = .ok (.iconst (-1), 1) := by decide +kernel
theorem dX3_row_158 : decode cX3_row 158 = .ok (.if_icmp .ne 7, 3) := by decide +kernel
theorem dX3_row_161 : decode cX3_row 161 = .ok (.iload_n 3, 1) := by decide +kernel
theorem dX3_row_162 : decode cX3_row 162 = .ok (.goto 5, 3) := by decide +kernel
theorem dX3_row_165 : decode cX3_row 165 = .ok (.iload 4, 2) := by decide +kernel
theorem dX3_row_167 : decode cX3_row 167 = .ok (.ireturn, 1) := by decide +kernel
abbrev cX3_exchanges : ByteArray := prog_22_method_55_code
def yX3_exchanges : MethodName := ⟨RX3, "exchanges", "(I)I"⟩
theorem dX3_exchanges_0 : decode cX3_exchanges 0 = .ok (.iload_n 1, 1) := by decide +kernel
theorem dX3_exchanges_1 : decode cX3_exchanges 1 = .ok (.iconst 0, 1) := by decide +kernel
theorem dX3_exchanges_2 : decode cX3_exchanges 2 = .ok (.iconst 2, 1) := by decide +kernel
theorem dX3_exchanges_3 : decode cX3_exchanges 3 = .ok (.invokestatic 69, 3) := by decide +kernel
theorem dX3_exchanges_6 : decode cX3_exchanges 6 = .ok (.ifCond .eq 14, 3) := by decide +kernel
theorem dX3_exchanges_9 : decode cX3_exchanges 9 = .ok (.aload_n 0, 1) := by decide +kernel
theorem dX3_exchanges_10 : decode cX3_exchanges 10 = .ok (.getfield 7, 3) := by decide +kernel
theorem dX3_exchanges_13 : decode cX3_exchanges 13 = .ok (.iconst 5, 1) := by decide +kernel
theorem dX3_exchanges_14 : decode cX3_exchanges 14 = .ok (.iload_n 1, 1) := by decide +kernel
theorem dX3_exchanges_15 : decode cX3_exchanges 15 = .ok (.iadd, 1) := by decide +kernel
theorem dX3_exchanges_16 : decode cX3_exchanges 16 = .ok (.iaload, 1) := by decide +kernel
theorem dX3_exchanges_17 : decode cX3_exchanges 17 = .ok (.goto 4, 3) := by decide +kernel
theorem dX3_exchanges_20 : decode cX3_exchanges 20 = .ok (.iconst (-1), 1) := by decide +kernel
theorem dX3_exchanges_21 : decode cX3_exchanges 21 = .ok (.ireturn, 1) := by decide +kernel
abbrev cX3_points : ByteArray := prog_22_method_56_code
def yX3_points : MethodName := ⟨RX3, "points", "()I"⟩
theorem dX3_points_0 : decode cX3_points 0 = .ok (.iconst 0, 1) := by decide +kernel
theorem dX3_points_1 : decode cX3_points 1 = .ok (.istore_n 1, 1) := by decide +kernel
theorem dX3_points_2 : decode cX3_points 2 = .ok (.iconst 0, 1) := by decide +kernel
theorem dX3_points_3 : decode cX3_points 3 = .ok (.istore_n 2, 1) := by decide +kernel
theorem dX3_points_4 : decode cX3_points 4 = .ok (.iload_n 2, 1) := by decide +kernel
theorem dX3_points_5 : decode cX3_points 5 = .ok (.aload_n 0, 1) := by decide +kernel
theorem dX3_points_6 : decode cX3_points 6 = .ok (.getfield 7, 3) := by decide +kernel
theorem dX3_points_9 : decode cX3_points 9 = .ok (.iconst 1, 1) := by decide +kernel
theorem dX3_points_10 : decode cX3_points 10 = .ok (.iaload, 1) := by decide +kernel
theorem dX3_points_11 : decode cX3_points 11 = .ok (.if_icmp .ge 29, 3) := by decide +kernel
theorem dX3_points_14 : decode cX3_points 14 = .ok (.iload_n 1, 1) := by decide +kernel
theorem dX3_points_15 : decode cX3_points 15 = .ok (.aload_n 0, 1) := by decide +kernel
theorem dX3_points_16 : decode cX3_points 16 = .ok (.iload_n 2, 1) := by decide +kernel
theorem dX3_points_17 : decode cX3_points 17 = .ok (.invokevirtual 80, 3) := by decide +kernel
theorem dX3_points_20 : decode cX3_points 20 = .ok (.ifCond .eq 11, 3) := by decide +kernel
theorem dX3_points_23 : decode cX3_points 23 = .ok (.aload_n 0, 1) := by decide +kernel
theorem dX3_points_24 : decode cX3_points 24 = .ok (.iload_n 2, 1) := by decide +kernel
theorem dX3_points_25 : decode cX3_points 25 = .ok (.invokevirtual 115, 3) := by decide +kernel
theorem dX3_points_28 : decode cX3_points 28 = .ok (.goto 4, 3) := by decide +kernel
theorem dX3_points_31 : decode cX3_points 31 = .ok (.iconst 0, 1) := by decide +kernel
theorem dX3_points_32 : decode cX3_points 32 = .ok (.iadd, 1) := by decide +kernel
theorem dX3_points_33 : decode cX3_points 33 = .ok (.istore_n 1, 1) := by decide +kernel
theorem dX3_points_34 : decode cX3_points 34 = .ok (.iinc 2 1, 3) := by decide +kernel
theorem dX3_points_37 : decode cX3_points 37 = .ok (.goto (-33), 3) := by decide +kernel
theorem dX3_points_40 : decode cX3_points 40 = .ok (.iload_n 1, 1) := by decide +kernel
theorem dX3_points_41 : decode cX3_points 41 = .ok (.ireturn, 1) := by decide +kernel
abbrev cX3_chain : ByteArray := prog_22_method_58_code
def yX3_chain : MethodName := ⟨RX3, "chain", "(II)I"⟩
theorem dX3_chain_0 : decode cX3_chain 0 = .ok (.aload_n 0, 1) := by decide +kernel
theorem dX3_chain_1 : decode cX3_chain 1 = .ok (.iload_n 1, 1) := by decide +kernel
theorem dX3_chain_2 : decode cX3_chain 2 = .ok (.invokevirtual 91, 3) := by decide +kernel
theorem dX3_chain_5 : decode cX3_chain 5 = .ok (.ifCond .eq 9, 3) := by decide +kernel
theorem dX3_chain_8 : decode cX3_chain 8 = .ok (.iload_n 2, 1) := by decide +kernel
theorem dX3_chain_9 : decode cX3_chain 9 = .ok (.bipush (-3), 2) := by decide +kernel
theorem dX3_chain_11 : decode cX3_chain 11 = .ok (.if_icmp .ge 5, 3) := by decide +kernel
theorem dX3_chain_14 : decode cX3_chain 14 = .ok (.iconst (-1), 1) := by decide +kernel
theorem dX3_chain_15 : decode cX3_chain 15 = .ok (.ireturn, 1) := by decide +kernel
theorem dX3_chain_16 : decode cX3_chain 16 = .ok (.aload_n 0, 1) := by decide +kernel
theorem dX3_chain_17 : decode cX3_chain 17 = .ok (.getfield 7, 3) := by decide +kernel
theorem dX3_chain_20 : decode cX3_chain 20 = .ok (.bipush 90, 2) := by decide +kernel
theorem dX3_chain_22 : decode cX3_chain 22 = .ok (.iload_n 1, 1) := by decide +kernel
theorem dX3_chain_23 : decode cX3_chain 23 = .ok (.iadd, 1) := by decide +kernel
theorem dX3_chain_24 : decode cX3_chain 24 = .ok (.iaload, 1) := by decide +kernel
theorem dX3_chain_25 : decode cX3_chain 25 = .ok (.ifCond .eq 6, 3) := by decide +kernel
theorem dX3_chain_28 : decode cX3_chain 28 = .ok (.bipush (-3), 2) := by decide +kernel
theorem dX3_chain_30 : decode cX3_chain 30 = .ok (.ireturn, 1) := by decide +kernel
theorem dX3_chain_31 : decode cX3_chain 31 = .ok (.aload_n 0, 1) := by decide +kernel
theorem dX3_chain_32 : decode cX3_chain 32 = .ok (.iload_n 1, 1) := by decide +kernel
theorem dX3_chain_33 : decode cX3_chain 33 = .ok (.aload_n 0, 1) := by decide +kernel
theorem dX3_chain_34 : decode cX3_chain 34 = .ok (.getfield 7, 3) := by decide +kernel
theorem dX3_chain_37 : decode cX3_chain 37 = .ok (.bipush 10, 2) := by decide +kernel
theorem dX3_chain_39 : decode cX3_chain 39 = .ok (.iload_n 1, 1) := by decide +kernel
theorem dX3_chain_40 : decode cX3_chain 40 = .ok (.iadd, 1) := by decide +kernel
theorem dX3_chain_41 : decode cX3_chain 41 = .ok (.iaload, 1) := by decide +kernel
theorem dX3_chain_42 : decode cX3_chain 42 = .ok (.aload_n 0, 1) := by decide +kernel
theorem dX3_chain_43 : decode cX3_chain 43 = .ok (.getfield 7, 3) := by decide +kernel
theorem dX3_chain_46 : decode cX3_chain 46 = .ok (.bipush 30, 2) := by decide +kernel
theorem dX3_chain_48 : decode cX3_chain 48 = .ok (.iload_n 1, 1) := by decide +kernel
theorem dX3_chain_49 : decode cX3_chain 49 = .ok (.iadd, 1) := by decide +kernel
theorem dX3_chain_50 : decode cX3_chain 50 = .ok (.iaload, 1) := by decide +kernel
theorem dX3_chain_51 : decode cX3_chain 51 = .ok (.aload_n 0, 1) := by decide +kernel
theorem dX3_chain_52 : decode cX3_chain 52 = .ok (.getfield 7, 3) := by decide +kernel
theorem dX3_chain_55 : decode cX3_chain 55 = .ok (.bipush 50, 2) := by decide +kernel
theorem dX3_chain_57 : decode cX3_chain 57 = .ok (.iload_n 1, 1) := by decide +kernel
theorem dX3_chain_58 : decode cX3_chain 58 = .ok (.iadd, 1) := by decide +kernel
theorem dX3_chain_59 : decode cX3_chain 59 = .ok (.iaload, 1) := by decide +kernel
theorem dX3_chain_60 : decode cX3_chain 60 = .ok (.invokevirtual 242, 3) := by decide +kernel
theorem dX3_chain_63 : decode cX3_chain 63 = .ok (.iload_n 2, 1) := by decide +kernel
theorem dX3_chain_64 : decode cX3_chain 64 = .ok (.tableswitch 43 (-3) (-1) #[38, 33, 28], 28) := by decide +kernel
theorem dX3_chain_92 : decode cX3_chain 92 = .ok (.aload_n 0, 1) := by decide +kernel
theorem dX3_chain_93 : decode cX3_chain 93 = .ok (.getfield 233, 3) := by decide +kernel
theorem dX3_chain_96 : decode cX3_chain 96 = .ok (.ireturn, 1) := by decide +kernel
theorem dX3_chain_97 : decode cX3_chain 97 = .ok (.aload_n 0, 1) := by decide +kernel
theorem dX3_chain_98 : decode cX3_chain 98 = .ok (.getfield 236, 3) := by decide +kernel
theorem dX3_chain_101 : decode cX3_chain 101 = .ok (.ireturn, 1) := by decide +kernel
theorem dX3_chain_102 : decode cX3_chain 102 = .ok (.aload_n 0, 1) := by decide +kernel
